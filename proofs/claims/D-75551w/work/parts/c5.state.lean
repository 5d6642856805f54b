/-! THE COMPONENT's State: what it holds -/
abbrev zc_W : Type := Option Nat × Option Nat × Option Nat × Option Nat
/-- what its caches may still cost: cells, slots -/
def zc_pc (W : zc_W) : Nat := (if W.1 = none then 6 else 0) + (if W.2.1 = none then 2 else 0) + (if W.2.2.1 = none then 3 else 0) + (if W.2.2.2 = none then 8 else 0)
def zc_ps (W : zc_W) : Nat := (if W.1 = none then 4101 else 0) + (if W.2.1 = none then 1025 else 0) + (if W.2.2.1 = none then 8195 else 0) + (if W.2.2.2 = none then 30 else 0)
def zc_B (σ : zS) (W : zc_W) (C K : Nat) : Prop := zc_pc W + C ≤ σ.2.2.1 ∧ zc_ps W + K ≤ σ.2.2.2
/-- caches stay -/
def zc_wl (W W' : zc_W) : Prop := (W.1 ≠ none → W'.1 = W.1) ∧ (W.2.1 ≠ none → W'.2.1 = W.2.1) ∧ (W.2.2.1 ≠ none → W'.2.2.1 = W.2.2.1) ∧ (W.2.2.2 ≠ none → W'.2.2.2 = W.2.2.2)
def zc_fs (li lp la : Nat) (V : zs_V) (W : zc_W) : List Value := [va_rf (some li), va_rf (some lp), va_rf (some la), .int (V 1), .int (V 2), .int (V 3), .int (V 6), .int (V 7), .int (V 8), .int (V 9), .int (V 10), va_rf W.1, va_rf W.2.1, va_rf W.2.2.1, va_rf W.2.2.2]
def zs_rv (V : zs_V) (p : Nat) : Int32 := if zs_w V 0 p ≤ zs_cap V then nI (zs_best V true p) else -1
/-- the replies, laid for the first q plans -/
def zc_rp (G : zPg) (σ : zS) (τ : Nat → Nat) (s R : Nat) (V : zs_V) (q : Nat) : Prop := ∃ f, σ.1 R = some (.inl (0, zs_all V, .inl f)) ∧ τ R = s + 4 ∧ G.1 ≤ R ∧ ∀ p, p < q → f p = zs_rv V p
def zc_ol (G : zPg) (σ : zS) (τ : Nat → Nat) (s o : Nat) (V : zs_V) : Prop := ∃ ga ka fg fk, σ.1 o = some (.inr (25, [va_rf (some s), va_rf (some ga), va_rf (some ka)])) ∧ τ o = 0 ∧ σ.1 ga = some (.inl (0, 4 * zs_all V, .inl fg)) ∧ τ ga = s + 4 ∧ G.1 ≤ ga ∧ σ.1 ka = some (.inl (3, 4 * zs_all V, .inl fk)) ∧ τ ka = s + 4 ∧ G.1 ≤ ka ∧ (∀ i, i < 4 * zs_all V → fk i = 0 ∨ fk i = 1) ∧ ∀ u t pa, u < zs_all V → t ≤ 1 → pa ≤ 1 → fk (4 * u + 2 * t + pa) = 1 → fg (4 * u + 2 * t + pa) = iI (zs_O V u t pa)
def zc_cap (s S j : Nat) : List Value := if j < 2 then [] else if j = 2 ∨ j = 4 then [va_rf (some S)] else if j = 3 ∨ 7 ≤ j then [.ref s] else [.ref s, va_rf (some S)]
def zc_ms (σ : zS) (τ : Nat → Nat) (s Me : Nat) (V : zs_V) : Prop := ∃ f S, σ.1 Me = some (.inl (7, 9, zo_rf f)) ∧ τ Me = 0 ∧ zc_sm σ τ S V ∧ ∀ j, j < 9 → ∃ b, f j = some b ∧ σ.1 b = some (.inr (64 + j, zc_cap s S j)) ∧ τ b = 0
/-- all of it but its own cell -/
def zc_Pt (L : Nat × Nat × Nat) (G : zPg) (σ : zS) (τ : Nat → Nat) (s li lp la : Nat) (Ei Ep Ea : Nat → Nat) (V : zs_V) (W : zc_W) (q : Nat) : Prop :=
  τ s = s + 4 ∧ G.1 ≤ s ∧ li ≠ lp ∧ li ≠ la ∧ lp ≠ la ∧
  zc_li G σ τ li (zs_n V) Ei ∧ zc_its G σ τ V Ei ∧
  zc_li G σ τ lp (zs_lc V true) Ep ∧ (∀ i, i < zs_lc V true → zc_in σ τ (Ep i) (V (51 + i))) ∧
  zc_li G σ τ la (zs_lc V false) Ea ∧ (∀ i, i < zs_lc V false → zc_in σ τ (Ea i) (V (56 + i))) ∧
  (∀ S, W.1 = some S → zc_sm σ τ S V) ∧ (∀ R, W.2.1 = some R → zc_rp G σ τ s R V q) ∧ (∀ o, W.2.2.1 = some o → zc_ol G σ τ s o V) ∧ (∀ Me, W.2.2.2 = some Me → zc_ms σ τ s Me V) ∧ L = (li, lp, la)
def zc_S (L : Nat × Nat × Nat) (G : zPg) (σ : zS) (τ : Nat → Nat) (s : Nat) (V : zs_V) (W : zc_W) (q : Nat) : Prop := ∃ li lp la Ei Ep Ea, σ.1 s = some (.inr (1, zc_fs li lp la V W)) ∧ zc_Pt L G σ τ s li lp la Ei Ep Ea V W q
/-- a State at s that is V, with room for C cells, K slots beyond what its caches cost -/
def zc_P (L : Nat × Nat × Nat) (G : zPg) (s : Nat) (V : zs_V) (C K : Nat) (σ : zS) (τ : Nat → Nat) (W : zc_W) (q : Nat) : Prop := zc_S L G σ τ s V W q ∧ zc_B σ W C K ∧ zc_K G σ τ
/-- what asking a State changes -/
def zc_go (s : Nat) (σ : zS) (τ : Nat → Nat) (W : zc_W) (σ' : zS) (τ' : Nat → Nat) (W' : zc_W) : Prop := zo_le (· = s + 4) σ τ σ' τ' ∧ zc_wl W W'
section ZC5
variable {L : Nat × Nat × Nat} {G : zPg} {n : Nat} {σ σ' σ'' : zS} {τ τ' τ'' : Nat → Nat} {Q : zQ} {Y : zY} {s a e li lp la q C K : Nat} {E Ei Ep Ea : Nat → Nat} {O : Nat → Prop} {V : zs_V} {W W' W'' : zc_W}
theorem zc_wl.rfl' : zc_wl W W := ⟨fun _ => rfl, fun _ => rfl, fun _ => rfl, fun _ => rfl⟩
theorem zc_wl.trans (h : zc_wl W W') (h' : zc_wl W' W'') : zc_wl W W'' := by
  obtain ⟨a1, a2, a3, a4⟩ := h
  obtain ⟨b1, b2, b3, b4⟩ := h'
  exact ⟨fun g => (b1 (by rw [a1 g]; exact g)).trans (a1 g), fun g => (b2 (by rw [a2 g]; exact g)).trans (a2 g), fun g => (b3 (by rw [a3 g]; exact g)).trans (a3 g), fun g => (b4 (by rw [a4 g]; exact g)).trans (a4 g)⟩
theorem zc_go.rfl' : zc_go s σ τ W σ τ W := ⟨zo_le.rfl', zc_wl.rfl'⟩
theorem zc_go.trans (h : zc_go s σ τ W σ' τ' W') (h' : zc_go s σ' τ' W' σ'' τ'' W'') : zc_go s σ τ W σ'' τ'' W'' := ⟨h.1.trans h'.1, h.2.trans h'.2⟩
theorem zc_li.tr {len : Nat} (h : zc_li G σ τ a len E) (hK : zc_K G σ τ) (H : ∀ b e, σ.1 b = some e → (τ b = 0 ∨ τ b = a + 4) → σ'.1 b = some e ∧ τ' b = τ b) : zc_li G σ' τ' a len E := by
  obtain ⟨mc, arr, cap, f, h1, h2, h3, h4, h5, h6, h7, h8⟩ := h
  obtain ⟨k1, k2⟩ := H a _ h1 (Or.inr h2)
  have h9 : τ arr = 0 ∨ τ arr = a + 4 := by
    rcases h8 with h8 | h8
    · obtain ⟨f', _, g3⟩ := hK.2.1
      rw [h8.1]
      exact Or.inl g3
    · exact Or.inr h8.1
  obtain ⟨k3, k4⟩ := H arr _ h4 h9
  exact ⟨mc, arr, cap, f, k1, k2.trans h2, h3, k3, h5, h6, h7, h8.imp id fun g => ⟨k4.trans g.1, g.2⟩⟩
theorem zc_it.tr {g : Nat → Int32} (h : zc_it G σ τ e g) (H : ∀ b e, σ.1 b = some e → τ b = 0 → σ'.1 b = some e ∧ τ' b = τ b) : zc_it G σ' τ' e g := by
  obtain ⟨p, f, h1, h2, h3, h4, h5, h6⟩ := h
  obtain ⟨k1, k2⟩ := H _ _ h1 h2
  obtain ⟨k3, k4⟩ := H _ _ h3 h4
  exact ⟨p, f, k1, k2.trans h2, k3, k4.trans h4, h5, h6⟩
theorem zc_in.tr {x : Int32} (h : zc_in σ τ a x) (H : ∀ b e, σ.1 b = some e → τ b = 0 → σ'.1 b = some e ∧ τ' b = τ b) : zc_in σ' τ' a x := by
  obtain ⟨k1, k2⟩ := H _ _ h.1 h.2
  exact ⟨k1, k2.trans h.2⟩
theorem zc_sm.tr {S : Nat} (h : zc_sm σ τ S V) (H : ∀ b e, σ.1 b = some e → τ b = 0 → σ'.1 b = some e ∧ τ' b = τ b) : zc_sm σ' τ' S V := by
  obtain ⟨h1, o, g, h2, h3, h4, h5⟩ := h
  obtain ⟨k1, k2⟩ := H _ _ h2 h1
  obtain ⟨k3, k4⟩ := H _ _ h3 h4
  refine ⟨k2.trans h1, o, g, k1, k3, k4.trans h4, fun f hf => ?_⟩
  obtain ⟨b, fn, m1, m2, m3, m4⟩ := h5 f hf
  obtain ⟨k5, k6⟩ := H _ _ m2 m3
  exact ⟨b, fn, m1, k5, k6.trans m3, m4⟩
theorem zc_Pt.tr' (h : zc_Pt L G σ τ s li lp la Ei Ep Ea V W q) {q' : Nat} (hK : zc_K G σ τ) (hs : τ' s = s + 4) (Hc : ∀ b e, σ.1 b = some e → (∀ fs, e ≠ .inr (1, fs)) → (τ b = 0 ∨ τ b = li + 4 ∨ τ b = lp + 4 ∨ τ b = la + 4) → σ'.1 b = some e ∧ τ' b = τ b) (HR : ∀ R, W.2.1 = some R → zc_rp G σ τ s R V q → zc_rp G σ' τ' s R V q') (HO : ∀ o, W.2.2.1 = some o → zc_ol G σ τ s o V → zc_ol G σ' τ' s o V) : zc_Pt L G σ' τ' s li lp la Ei Ep Ea V W q' := by
  obtain ⟨h1, h2, h3, h4, h5, h6, h7, h8, h9, h10, h11, h12, h13, h14, h15, h16⟩ := h
  have Hl : ∀ a len E, zc_li G σ τ a len E → (a = li ∨ a = lp ∨ a = la) → zc_li G σ' τ' a len E := by
    intro a len E hl ha
    obtain ⟨mc, arr, cap, f, l1, l2, l3, l4, l5, l6, l7, l8⟩ := hl
    obtain ⟨k1, k2⟩ := Hc a _ l1 (fun fs => by intro e; cases e) (by omega)
    have l9 : τ arr = 0 ∨ τ arr = a + 4 := by
      rcases l8 with l8 | l8
      · obtain ⟨f', _, g3⟩ := hK.2.1
        rw [l8.1]
        exact Or.inl g3
      · exact Or.inr l8.1
    obtain ⟨k3, k4⟩ := Hc arr _ l4 (fun fs => by intro e; cases e) (by omega)
    exact ⟨mc, arr, cap, f, k1, k2.trans l2, l3, k3, l5, l6, l7, l8.imp id fun g => ⟨k4.trans g.1, g.2⟩⟩
  have Hi : ∀ e x, zc_in σ τ e x → zc_in σ' τ' e x := fun e x hi => by
    obtain ⟨k1, k2⟩ := Hc _ _ hi.1 (fun fs => by intro e; cases e) (Or.inl hi.2)
    exact ⟨k1, k2.trans hi.2⟩
  have Hm : ∀ S, zc_sm σ τ S V → zc_sm σ' τ' S V := fun S hm => by
    obtain ⟨m1, o, g, m2, m3, m4, m5⟩ := hm
    obtain ⟨k1, k2⟩ := Hc _ _ m2 (fun fs => by intro e; cases e) (Or.inl m1)
    obtain ⟨k3, k4⟩ := Hc _ _ m3 (fun fs => by intro e; cases e) (Or.inl m4)
    refine ⟨k2.trans m1, o, g, k1, k3, k4.trans m4, fun f hf => ?_⟩
    obtain ⟨b, fn, r1, r2, r3, r4⟩ := m5 f hf
    obtain ⟨k5, k6⟩ := Hc _ _ r2 (fun fs => by intro e; cases e) (Or.inl r3)
    exact ⟨b, fn, r1, k5, k6.trans r3, r4⟩
  refine ⟨hs, h2, h3, h4, h5, Hl _ _ _ h6 (by omega), fun k hk => ?_, Hl _ _ _ h8 (by omega), fun i hi => Hi _ _ (h9 i hi), Hl _ _ _ h10 (by omega), fun i hi => Hi _ _ (h11 i hi), fun S hS => Hm S (h12 S hS), fun R hR => HR R hR (h13 R hR), fun o ho => HO o ho (h14 o ho), fun Me hMe => ?_, h16⟩
  · obtain ⟨p, f, i1, i2, i3, i4, i5, i6⟩ := h7 k hk
    obtain ⟨k1, k2⟩ := Hc _ _ i1 (fun fs => by intro e; cases e) (Or.inl i2)
    obtain ⟨k3, k4⟩ := Hc _ _ i3 (fun fs => by intro e; cases e) (Or.inl i4)
    exact ⟨p, f, k1, k2.trans i2, k3, k4.trans i4, i5, i6⟩
  · obtain ⟨f, S, m1, m2, m3, m4⟩ := h15 Me hMe
    obtain ⟨k1, k2⟩ := Hc _ _ m1 (fun fs => by intro e; cases e) (Or.inl m2)
    refine ⟨f, S, k1, k2.trans m2, Hm S m3, fun j hj => ?_⟩
    obtain ⟨b, r1, r2, r3⟩ := m4 j hj
    obtain ⟨k3, k4⟩ := Hc _ _ r2 (fun fs e => by have e2 : 64 + j = 1 := congrArg (fun x : va_E => match x with | .inr y => y.1 | _ => 0) e; omega) (Or.inl r3)
    exact ⟨b, r1, k3, k4.trans r3⟩
theorem zc_rp.tr {R : Nat} (h : zc_rp G σ τ s R V q) (H : ∀ b e, σ.1 b = some e → (∀ fs, e ≠ .inr (1, fs)) → τ b = s + 4 → σ'.1 b = some e ∧ τ' b = τ b) : zc_rp G σ' τ' s R V q := by
  obtain ⟨f, r1, r2, r3, r4⟩ := h
  obtain ⟨k1, k2⟩ := H _ _ r1 (fun fs => by intro e; cases e) r2
  exact ⟨f, k1, k2.trans r2, r3, r4⟩
theorem zc_ol.tr {o : Nat} (h : zc_ol G σ τ s o V) (H : ∀ b e, σ.1 b = some e → (∀ fs, e ≠ .inr (1, fs)) → (τ b = 0 ∨ (τ b = s + 4 ∧ ∀ f, e ≠ .inl (0, zs_all V, .inl f))) → σ'.1 b = some e ∧ τ' b = τ b) (hA : 1 ≤ zs_all V) : zc_ol G σ' τ' s o V := by
  obtain ⟨ga, ka, fg, fk, o1, o2, o3, o4, o5, o6, o7, o8, o9⟩ := h
  obtain ⟨k1, k2⟩ := H _ _ o1 (fun fs => by intro e; cases e) (Or.inl o2)
  obtain ⟨k3, k4⟩ := H _ _ o3 (fun fs => by intro e; cases e) (Or.inr ⟨o4, fun f e => by
    have e1 := congrArg (fun x : va_E => match x with | .inl y => y.2.1 | _ => 0) e
    have e2 : 4 * zs_all V = zs_all V := e1
    omega⟩)
  obtain ⟨k5, k6⟩ := H _ _ o6 (fun fs => by intro e; cases e) (Or.inr ⟨o7, fun f e => by cases e⟩)
  exact ⟨ga, ka, fg, fk, k1, k2.trans o2, k3, k4.trans o4, o5, k5, k6.trans o7, o8, o9⟩
theorem zc_Pt.tr (h : zc_Pt L G σ τ s li lp la Ei Ep Ea V W q) (hV : zs_ok V) (hK : zc_K G σ τ) (hs : τ' s = s + 4) (H : ∀ b e, σ.1 b = some e → b ≠ s → (τ b = 0 ∨ τ b = li + 4 ∨ τ b = lp + 4 ∨ τ b = la + 4 ∨ τ b = s + 4) → σ'.1 b = some e ∧ τ' b = τ b) (hc : ∃ fs, σ.1 s = some (.inr (1, fs))) : zc_Pt L G σ' τ' s li lp la Ei Ep Ea V W q := by
  obtain ⟨fs, hc⟩ := hc
  have Hc : ∀ b e, σ.1 b = some e → (∀ fs, e ≠ .inr (1, fs)) → (τ b = 0 ∨ τ b = li + 4 ∨ τ b = lp + 4 ∨ τ b = la + 4 ∨ τ b = s + 4) → σ'.1 b = some e ∧ τ' b = τ b := fun b e hb hn ht => H b e hb (fun hbs => by
    subst hbs
    rw [hc] at hb
    cases hb
    exact hn fs rfl) ht
  exact h.tr' hK hs (fun b e hb hn ht => Hc b e hb hn (by omega)) (fun R _ hR => hR.tr fun b e hb hn ht => Hc b e hb hn (by omega)) (fun o _ ho => ho.tr (fun b e hb hn ht => Hc b e hb hn (by omega)) hV.all.1)
/-- another State is asked, or something else happens that is not this one's -/
theorem zc_S.mono (h : zc_S L G σ τ s V W q) (hV : zs_ok V) (hK : zc_K G σ τ) (hle : zo_le O σ τ σ' τ') (h0 : ¬ O 0) (hs : ¬ O (s + 4)) (hl : ∀ a fs, σ.1 a = some (.inr (2, fs)) → ¬ O (a + 4)) : zc_S L G σ' τ' s V W q := by
  obtain ⟨li, lp, la, Ei, Ep, Ea, hc, hPt⟩ := h
  have l1 : ¬ O (li + 4) := by
    obtain ⟨mc, arr, cap, f, l1, _⟩ := hPt.2.2.2.2.2.1
    exact hl _ _ l1
  have l2 : ¬ O (lp + 4) := by
    obtain ⟨mc, arr, cap, f, l1, _⟩ := hPt.2.2.2.2.2.2.2.1
    exact hl _ _ l1
  have l3 : ¬ O (la + 4) := by
    obtain ⟨mc, arr, cap, f, l1, _⟩ := hPt.2.2.2.2.2.2.2.2.2.1
    exact hl _ _ l1
  refine ⟨li, lp, la, Ei, Ep, Ea, (hle.at' hc hPt.1 hs).1, hPt.tr hV hK ((hle.tg hc).trans hPt.1) (fun b e hb _ ht => ⟨hle.at hb ?_, hle.tg hb⟩) ⟨_, hc⟩⟩
  rcases ht with ht | ht | ht | ht | ht <;> rw [ht] <;> assumption
theorem zc_P.cl (h : zc_P L G s V C K σ τ W q) : σ.1 s = some (.inr (1, zc_fs L.1 L.2.1 L.2.2 V W)) ∧ τ s = s + 4 ∧ G.1 ≤ s := by
  obtain ⟨⟨li, lp, la, Ei, Ep, Ea, hs, hPt⟩, hB, hK⟩ := h
  obtain ⟨h1, h2, h3, h4, h5, h6, h7, h8, h9, h10, h11, h12, h13, h14, h15, h16⟩ := hPt
  subst h16
  exact ⟨hs, h1, h2⟩
end ZC5
