/-! THE COMPONENT's State: made anew, copied -/
/-- an object of class c, for good -/
def zc_fz (σ : zS) (τ : Nat → Nat) (c e : Nat) : Prop := τ e = 0 ∧ ∃ fs, σ.1 e = some (.inr (c, fs))
/-- what belongs to objects made on the way may be changed -/
theorem zo_le.fresh2 {O O' : Nat → Prop} {σ σ' σ'' : zS} {τ τ' τ'' : Nat → Nat} (h : zo_le O σ τ σ' τ') (h' : zo_le O' σ' τ' σ'' τ'') (hO : ∀ x, O' x → ∃ y, x = y + 4 ∧ σ.1 y = none) (hw : zo_tw σ τ) : zo_le O σ τ σ'' τ'' := zo_ad.trans h h' fun b e he hb => by
  obtain ⟨y, h1, h2⟩ := hO _ hb
  rw [h.tg he] at h1
  rcases hw b e he with g | ⟨e2, g⟩
  · omega
  · rw [h1, show y + 4 - 4 = y by omega, h2] at g
    cases g
section ZD3
variable {L L' : Nat × Nat × Nat} {G : zPg} {n : Nat} {σ σ' σ'' : zS} {τ τ' τ'' : Nat → Nat} {Q : zQ} {Y : zY} {s t a b c e q C K f len : Nat} {E E' : Nat → Nat} {V V' : zs_V} {W W' W'' : zc_W} {fs fs' : List Value}
theorem zc_fz.mono {O : Nat → Prop} (h : zc_fz σ τ c e) (hle : zo_le O σ τ σ' τ') (h0 : ¬ O 0) : zc_fz σ' τ' c e := by
  obtain ⟨h1, fs, h2⟩ := h
  exact ⟨(hle.at' h2 h1 h0).2, fs, (hle.at' h2 h1 h0).1⟩
theorem zc_fz.ob (h : zc_fz σ τ c e) (hc : c ≤ 30) : zc_ob σ e := by
  obtain ⟨h1, fs, h2⟩ := h
  exact ⟨c, fs, hc, h2⟩
/-- a list's elements go into an empty one -/
theorem zc_cplp {s' : Nat} {F : zS → Prop} (hK : zc_K G σ τ) (hs : σ.1 s = some (.inr (1, fs))) (hts : τ s ≠ b + 4) (hs' : σ.1 s' = some (.inr (1, fs'))) (hts' : τ s' ≠ b + 4) (hf : fs[f]? = some (va_rf (some a))) (hf' : fs'[f]? = some (va_rf (some b))) (hA : zc_li G σ τ a len E) (hab : a ≠ b) (hB : zc_li G σ τ b 0 E') (hE : ∀ i, i < len → zc_fz σ τ c (E i)) (hc : c ≤ 30) (hl : len ≤ 10) (h1 : len ≤ σ.2.2.1) (h2 : 30 * len ≤ σ.2.2.2) (h : ∀ s u, zo_le (· = b + 4) σ τ s u → zc_li G s u b len E → σ.2.2.1 ≤ s.2.2.1 + len → σ.2.2.2 ≤ s.2.2.2 + 30 * len → F s) : ∃ n', zIt (fun _ _ => False) (fun (rec : Int32 → zS → Prop) (p : Int32) (s10 : zS) => zgR s10 (some s) 1 f (fun v12 => zrc s10 v12 2 (fun a21 => zcl (zCall G (n + 7)) 128 [.ref a21] Y s10 (zqI (fun v18 s19 => ((v18 ≤ p) → F s19) ∧ ((¬ v18 ≤ p) → zgR s19 (some s') 1 f (fun v231 => zgR s19 (some s) 1 f (fun v237 => zrc s19 v237 2 (fun a246 => zcl (zCall G (n + 7)) 129 [.ref a246, .int p] Y s19 (zqR (fun v243 s244 => (zcst s244 v243 [c] ∧ zrc s244 v231 2 (fun a253 => zcl (zCall G (n + 7)) 131 [.ref a253, va_rf v243] Y s244 (zqI (fun v250 s251 => (∀ v257 : Int32, v257 = p + (1) → rec v257 s251))))))))))))))))  n' (0) σ := by
  refine zf2 0 len (fun k s1 => ∃ u, zo_le (· = b + 4) σ τ s1 u ∧ zc_li G s1 u b k E ∧ σ.2.2.1 ≤ s1.2.2.1 + k ∧ σ.2.2.2 ≤ s1.2.2.2 + 30 * k) (by omega) ?_ ?_ ⟨τ, zo_le.rfl', hB.ext (fun i hi => absurd hi (Nat.not_lt_zero _)), by omega, by omega⟩
  · rintro rec k s1 _ hk ⟨u, a1, a2, a3, a4⟩ hrec
    have k1 := a1.at hs hts
    have k2 := a1.at hs' hts'
    have kA := hA.mono hK a1 (by omega) (by omega)
    have kK := hK.mono a1 (by omega)
    refine zo_gR k1 hf (zc_rc2 kA (zc_128 kA (zqI_r.mpr ⟨fun h9 => absurd h9 (nI_ge hk (by omega)), fun _ => zo_gR k2 hf' (zo_gR k1 hf (zc_rc2 kA (zc_129 kA (by omega) hk (zqR_r.mpr ?_))))⟩)))
    have ke := (hE k hk).mono a1 (by omega)
    obtain ⟨t0, fe, he⟩ := ke
    refine ⟨Or.inr ⟨_, _, _, rfl, List.mem_singleton.mpr rfl, he⟩, zc_rc2 a2 (zc_131 a2 (by omega) kK (fun i hi => ⟨((hE i (by omega)).mono a1 (by omega)).ob hc, ?_⟩) ⟨c, fe, hc, he⟩ (by omega) (by omega) (by omega) fun s2 u2 b1 b2 b3 b4 => zqI_r.mpr fun v hv => ?_)⟩
    · rw [((hE i (by omega)).mono a1 (by omega)).1]
      omega
    · subst hv
      refine hrec s2 ⟨u2, a1.trans b1, b2.ext (fun i hi => ?_), by omega, by omega⟩
      by_cases hik : i = k
      · subst hik
        exact (va_up_self _ _ _).symm
      · exact (va_up_ne _ _ hik).symm
  · rintro rec s1 ⟨u, a1, a2, a3, a4⟩
    have k1 := a1.at hs hts
    have kA := hA.mono hK a1 (by omega) (by omega)
    refine zo_gR k1 hf (zc_rc2 kA (zc_128 kA (zqI_r.mpr ⟨fun _ => h s1 u a1 a2 a3 a4, fun h9 => absurd (nI_le (Nat.le_refl _) (by omega)) h9⟩)))
/-- a new State -/
def zc_nw (li lp la : Option Nat) : List Value := [va_rf li, va_rf lp, va_rf la, .int 0, .int 0, .int 0, .int 0, .int 0, .int 0, .int 0, .int 0, va_rf none, va_rf none, va_rf none, va_rf none]
theorem zc_81 (hK : zc_K G σ τ) (hs : σ.1 s = some (.inr (1, zc_nw none none none))) (hz : G.1 ≤ s) (hts : τ s = s + 4) (hC : 3 ≤ σ.2.2.1) (hKK : 9 ≤ σ.2.2.2) (h : ∀ s1 u li lp la, zo_ad (· = s) σ τ s1 u → s1.1 s = some (.inr (1, zc_nw (some li) (some lp) (some la))) → zc_li G s1 u li 0 E → zc_li G s1 u lp 0 E → zc_li G s1 u la 0 E → li ≠ lp → li ≠ la → lp ≠ la → σ.1 li = none → σ.1 lp = none → σ.1 la = none → σ.2.2.1 ≤ s1.2.2.1 + 3 → σ.2.2.2 ≤ s1.2.2.2 + 9 → Q none s1) : zCall G (n + 4) 81 [.ref s] Q Y σ := by
  have no : ∀ x, ¬ zo_no x := fun x h => h
  -- one list more
  have step : ∀ (σ1 : zS) (τ1 : Nat → Nat) (fs : List Value) (k : Nat) (F : zS → Prop), zc_K G σ1 τ1 → σ1.1 s = some (.inr (1, fs)) → τ1 s = s + 4 → Nat.ble (k + 1) fs.length = true → 1 ≤ σ1.2.2.1 → 3 ≤ σ1.2.2.2 → (∀ s3 u l, zo_ad (· = s) σ1 τ1 s3 u → s3.1 s = some (.inr (1, fs.set k (va_rf (some l)))) → zc_li G s3 u l 0 E → σ1.1 l = none → l = σ1.2.1 → σ1.2.2.1 ≤ s3.2.2.1 + 1 → σ1.2.2.2 ≤ s3.2.2.2 + 3 → F s3) → znew σ1 2 [.int 0, va_rf none, .int 0] 3 (fun s3 => (∃ a9, (some σ1.2.1) = some a9 ∧ zcl (zCall G (n + 3)) 127 [.ref a9] Y s3 (zqV (fun s7 => zput s7 G.1 (some s) 1 k (va_rf (some σ1.2.1)) (fun s11 => F s11))))) := by
    intro σ1 τ1 fs k F hK1 hs1 ht1 hk1 c1 c2 hF
    refine zo_new c1 c2 fun s3 m3 => ⟨_, rfl, ?_⟩
    have g1 := hK1.1
    have d1 := m3.2.2.2.2.2.1
    have d2 := m3.2.2.2.2.2.2
    have f0 := m3.1
    have nl := m3.nn hs1
    have le3 : zo_le zo_no σ1 τ1 s3 (va_up τ1 σ1.2.1 (σ1.2.1 + 4)) := m3.le (σ1.2.1 + 4) (Or.inr (Or.inl rfl))
    refine zc_127 (x := 0) (r := none) (E := E) m3.at (va_up_self _ _ _) g1 (hK1.mono le3 (no _)) fun s4 w4 l4 => zqV_r.mpr ?_
    have hs4 := w4.ne (m3.ne hs1) nl
    refine zo_put hs4 hz hk1 fun s5 w5 => ?_
    have ad4 : zo_ad (· = s) σ1 τ1 s4 (va_up τ1 σ1.2.1 (σ1.2.1 + 4)) := (zo_ad.wide le3 fun _ _ _ h => h.elim).new f0 m3.at w4
    have ad5 : zo_ad (· = s) σ1 τ1 s5 (va_up τ1 σ1.2.1 (σ1.2.1 + 4)) := ad4.trans (w5.ad (A := (· = s)) hs4 rfl) (fun _ _ _ h => h)
    refine hF s5 _ σ1.2.1 ad5 w5.1 ?_ f0 rfl (by rw [w5.2.2, w4.2.2]; omega) (by rw [w5.2.2, w4.2.2]; omega)
    refine l4.tr (hK1.mono (le3.new f0 m3.at w4) (no _)) fun b e hb ht => ⟨w5.ne hb fun e => ?_, rfl⟩
    rw [e] at ht
    rw [va_up_ne _ _ nl, ht1] at ht
    omega
  have adK : ∀ (σ1 : zS) (τ1 : Nat → Nat), zo_ad (· = s) σ τ σ1 τ1 → zc_K G σ1 τ1 := fun σ1 τ1 h => hK.mono (O := (· = s + 4)) (h.toLe fun b hb => by
    have hb : b = s := hb
    rw [hb]
    exact hts) (by omega)
  refine ze81 ⟨_, rfl, ⟨_, rfl, ?_⟩⟩
  refine step σ τ _ 0 _ hK hs hts rfl (by omega) (by omega) fun s1 u1 li a1 a2 a3 a4 a5 a6 a7 => ?_
  have t1 : u1 s = s + 4 := (a1.tg hs).trans hts
  refine step s1 u1 _ 1 _ (adK _ _ a1) a2 t1 rfl (by omega) (by omega) fun s2 u2 lp b1 b2 b3 b4 b5 b6 b7 => ?_
  have ab := a1.trans b1 (fun _ _ _ h => h)
  have t2 : u2 s = s + 4 := (b1.tg a2).trans t1
  refine step s2 u2 _ 2 _ (adK _ _ ab) b2 t2 rfl (by omega) (by omega) fun s3 u3 la c1 c2 c3 c4 c5 c6 c7 => ?_
  have abc := ab.trans c1 (fun _ _ _ h => h)
  have mo : ∀ (σ1 : zS) (τ1 : Nat → Nat) (σ2 : zS) (τ2 : Nat → Nat) (l : Nat), zc_K G σ1 τ1 → zo_ad (· = s) σ1 τ1 σ2 τ2 → τ1 s = s + 4 → (∃ fs, σ1.1 s = some (.inr (1, fs))) → zc_li G σ1 τ1 l 0 E → zc_li G σ2 τ2 l 0 E := fun σ1 τ1 σ2 τ2 l hk had hts hcs hl => by
    have hle : zo_le (· = s + 4) σ1 τ1 σ2 τ2 := had.toLe fun b hb => by
      have hb : b = s := hb
      rw [hb]
      exact hts
    refine hl.mono hk hle (fun e => ?_) (by omega)
    obtain ⟨mc, arr, cap, ff, l1, _⟩ := hl
    obtain ⟨fs, hcs⟩ := hcs
    have e : l + 4 = s + 4 := e
    rw [show l = s by omega, hcs] at l1
    cases l1
  have nn : ∀ (σ1 : zS) (τ1 : Nat → Nat) (l l' : Nat), zc_li G σ1 τ1 l 0 E → σ1.1 l' = none → l ≠ l' := fun σ1 τ1 l l' hl hn e => by
    obtain ⟨mc, arr, cap, ff, l1, _⟩ := hl
    rw [e, hn] at l1
    cases l1
  have a3' := mo s1 u1 s2 u2 li (adK _ _ a1) b1 t1 ⟨_, a2⟩ a3
  have back : ∀ (σ1 : zS) (τ1 : Nat → Nat) (l : Nat), zo_ad (· = s) σ τ σ1 τ1 → σ1.1 l = none → σ.1 l = none := fun σ1 τ1 l had hn => by
    cases hl : σ.1 l with
    | none => rfl
    | some e =>
      obtain ⟨e', h1, _⟩ := had.2.2 l e hl
      rw [hn] at h1
      cases h1
  exact h s3 u3 li lp la abc c2 (mo s2 u2 s3 u3 li (adK _ _ ab) c1 t2 ⟨_, b2⟩ a3') (mo s2 u2 s3 u3 lp (adK _ _ ab) c1 t2 ⟨_, b2⟩ b3) c3 (nn _ _ _ _ a3 b4) (nn _ _ _ _ a3' c4) (nn _ _ _ _ b3 c4) a4 (back _ _ _ a1 b4) (back _ _ _ ab c4) (by omega) (by omega)
end ZD3
