/-! THE COMPONENT's Outlook -/
def zs_fr (V : zs_V) (u t pa : Nat) : Int := if pa = 2 then 0 else zs_O V u t pa
/-- why an item cannot be taken -/
def zs_why (V : zs_V) (u t k : Nat) : Nat := if u.testBit k = true then 2 else if zs_rest V u < zs_p V k 0 then 3 else if t = 1 ∧ zs_rest V u < zs_thr V then 4 else 0
theorem zs_why0 {V : zs_V} {u t k : Nat} (ht : t ≤ 1) : zs_why V u t k = 0 ↔ zs_may V u t k = true := by
  unfold zs_why zs_may
  simp only [Bool.and_eq_true, Bool.or_eq_true, decide_eq_true_iff, Bool.not_eq_true']
  by_cases h1 : u.testBit k = true
  · rw [if_pos h1]
    exact ⟨fun h => absurd h (by omega), fun h => absurd h.1 (by rw [h1]; decide)⟩
  · rw [if_neg h1]
    have h1' : u.testBit k = false := by simpa using h1
    by_cases h2 : zs_rest V u < zs_p V k 0
    · rw [if_pos h2]
      exact ⟨fun h => absurd h (by omega), fun h => absurd h.2.1 (by omega)⟩
    · rw [if_neg h2]
      by_cases h3 : t = 1 ∧ zs_rest V u < zs_thr V
      · rw [if_pos h3]
        exact ⟨fun h => absurd h (by omega), fun h => absurd h.2.2 (by omega)⟩
      · rw [if_neg h3]
        exact ⟨fun _ => ⟨h1', by omega, by omega⟩, fun _ => rfl⟩
section ZC9
variable {L : Nat × Nat × Nat} {G : zPg} {n : Nat} {σ σ' σ'' : zS} {τ τ' τ'' : Nat → Nat} {Q : zQ} {Y : zY} {s t a e q C K o u k pa : Nat} {V : zs_V} {W W' W'' : zc_W}
theorem zc_P.ol (hP : zc_P L G s V C K σ τ W q) (hO : W.2.2.1 = some o) : zc_ol G σ τ s o V := by
  obtain ⟨⟨li, lp, la, Ei, Ep, Ea, hs, hPt⟩, hB, hK⟩ := hP
  exact hPt.2.2.2.2.2.2.2.2.2.2.2.2.2.1 o hO
theorem zc_P.it (hP : zc_P L G s V C K σ τ W q) : ∃ li lp la Ei, σ.1 s = some (.inr (1, zc_fs li lp la V W)) ∧ zc_li G σ τ li (zs_n V) Ei := by
  obtain ⟨⟨li, lp, la, Ei, Ep, Ea, hs, hPt⟩, hB, hK⟩ := hP
  exact ⟨li, lp, la, Ei, hs, hPt.2.2.2.2.2.1⟩
theorem zc_go.keep (h : zc_go s σ τ W σ' τ' W') (hO : W.2.2.1 = some o) : W'.2.2.1 = some o := (h.2.2.2.1 (by rw [hO]; intro e; cases e)).trans hO
theorem zc_507 (hV : zs_ok V) (hP : zc_P L G s V C K σ τ W q) (hO : W.2.2.1 = some o) (hu : u < zs_all V) (h : ∀ σ' τ' W', zc_go s σ τ W σ' τ' W' → zc_P L G s V C K σ' τ' W' q → Q (some (.int (iI (zs_rest V u)))) σ') : zCall G (n + 6) 507 [.ref o, .int (nI u)] Q Y σ := by
  obtain ⟨li, lp, la, hs, _⟩ := hP.cell
  obtain ⟨ga, ka, fg, fk, o1, o2, o3⟩ := hP.ol hO
  refine ze507 ⟨_, _, rfl, zo_gR o1 rfl (zo_gI hs rfl (zo_gR o1 rfl (zo_rc hs (zc_83 hV hP fun s1 τ1 W1 S a1 a2 a3 a4 a5 => zqR_r.mpr (a5.rc (zc_453 a5 hV hu (zqI_r.mpr ?_)))))))⟩
  rw [zs_c1 V, iI_sub]
  exact h s1 τ1 W1 a1 a2
theorem zs_p_i (V : zs_V) (k f : Nat) : V (11 + 4 * k + f) = iI (zs_p V k f) := (iI_of _).symm
theorem zc_506 (hV : zs_ok V) (hP : zc_P L G s V C K σ τ W q) (hO : W.2.2.1 = some o) (hu : u < zs_all V) (hpa : pa ≤ 2) (h : ∀ σ' τ' W', zc_go s σ τ W σ' τ' W' → zc_P L G s V C K σ' τ' W' q → Q (some (.int (zs_b (pa = 2 ∨ zs_can V u = false)))) σ') : zCall G (n + 7) 506 [.ref o, .int (nI u), .int (nI pa)] Q Y σ := by
  have hA := hV.all
  have hn := hV.n0.2
  refine ze506 ⟨_, _, _, rfl, ?_⟩
  have e2 : nI pa = (2 : Int32) ↔ pa = 2 := nI_eq (b := 2) (by omega) (by omega)
  rw [e2]
  refine ⟨fun hne => ?_, fun he => ?_⟩
  · refine zf2 0 (zs_n V) (fun k s' => ∃ τ' W', zc_go s σ τ W s' τ' W' ∧ zc_P L G s V C K s' τ' W' q ∧ zs_canb V u k = false) (by omega) ?_ ?_ ⟨τ, W, zc_go.rfl', hP, rfl⟩
    · rintro rec k s' _ hk ⟨τ', W', a1, a2, a3⟩ hrec
      obtain ⟨li, lp, la, Ei, hs, hL⟩ := a2.it
      obtain ⟨ga, ka, fg, fk, o1, o2, o3⟩ := a2.ol (a1.keep hO)
      refine zo_gR o1 rfl (zo_gR hs rfl (zc_rc2 hL (zc_128 hL (zqI_r.mpr ⟨fun h9 => absurd h9 (nI_ge hk (by omega)), fun _ => zc_31 (by omega) (by omega) (zqI_r.mpr ?_)⟩))))
      rw [zs_b0]
      refine zJ_go (fun (j : zS → Prop) => ∀ s2 τ2 W2, zc_go s σ τ W s2 τ2 W2 → zc_P L G s V C K s2 τ2 W2 q → zs_canb V u (k + 1) = false → j s2) ?_ ?_
      · intro s2 τ2 W2 b1 b2 b3 v hv
        subst hv
        exact hrec s2 ⟨τ2, W2, b1, b2, b3⟩
      · intro j hj
        refine ⟨fun hb => ?_, fun hb => ?_⟩
        · have hb := Classical.not_not.mp hb
          refine hj s' τ' W' a1 a2 ?_
          simp only [zs_canb, a3, hb]
          rfl
        · have hb : u.testBit k = false := by simpa using hb
          refine zo_gR o1 rfl (a2.rc (zc_94 (f := 0) a2 hV hk (by omega) (zqI_r.mpr (zo_rc o1 (zc_507 hV a2 (a1.keep hO) hu fun s2 τ2 W2 b1 b2 => zqI_r.mpr ?_)))))
          have p1 := hV.pr hk (f := 0) (by omega)
          have p2 := zs_rest_b hV u
          have elt : iI (zs_rest V u) < V (11 + 4 * k + 0) ↔ ¬ zs_p V k 0 ≤ zs_rest V u := by
            rw [zs_p_i V k 0, iI_lt (by omega) (by omega) (by omega) (by omega)]
            omega
          rw [elt]
          refine ⟨fun h9 => hj s2 τ2 W2 (a1.trans b1) b2 ?_, fun h9 => ?_⟩
          · simp only [zs_canb, a3, hb, decide_eq_false h9]
            rfl
          · have hc : zs_canb V u (k + 1) = true := by
              simp only [zs_canb, a3, hb, decide_eq_true (Classical.not_not.mp h9)]
              rfl
            have hc2 : zs_can V u = true := by
              have : ∀ i j, i ≤ j → zs_canb V u i = true → zs_canb V u j = true := by
                intro i j
                induction j with
                | zero => intro hij hi; rw [show i = 0 by omega] at hi; exact hi
                | succ j ih =>
                  intro hij hi
                  by_cases e : i = j + 1
                  · rw [← e]; exact hi
                  · simp only [zs_canb, ih (by omega) hi]
                    rfl
              exact this (k + 1) (zs_n V) (by omega) hc
            have := h s2 τ2 W2 (a1.trans b1) b2
            have hnn : ¬ (pa = 2 ∨ zs_can V u = false) := fun h8 => h8.elim hne (fun h7 => by rw [hc2] at h7; cases h7)
            rw [zs_bf hnn] at this
            exact ⟨Or.inl rfl, this⟩
    · rintro rec s' ⟨τ', W', a1, a2, a3⟩
      obtain ⟨li, lp, la, Ei, hs, hL⟩ := a2.it
      obtain ⟨ga, ka, fg, fk, o1, o2, o3⟩ := a2.ol (a1.keep hO)
      refine zo_gR o1 rfl (zo_gR hs rfl (zc_rc2 hL (zc_128 hL (zqI_r.mpr ⟨fun _ => ⟨Or.inr rfl, ?_⟩, fun h9 => absurd (nI_le (Nat.le_refl _) (by omega)) h9⟩))))
      have := h s' τ' W' a1 a2
      rw [zs_bt (show pa = 2 ∨ zs_can V u = false from Or.inr a3)] at this
      exact this
  · have := h σ τ W zc_go.rfl' hP
    rw [zs_bt (Or.inl he)] at this
    exact ⟨Or.inr rfl, this⟩
theorem zc_510 (hV : zs_ok V) (hP : zc_P L G s V C K σ τ W q) (hO : W.2.2.1 = some o) (hu : u < zs_all V) (ht : t ≤ 1) (hk : k < zs_n V) (h : ∀ σ' τ' W', zc_go s σ τ W σ' τ' W' → zc_P L G s V C K σ' τ' W' q → Q (some (.int (nI (zs_why V u t k)))) σ') : zCall G (n + 7) 510 [.ref o, .int (nI u), .int (nI t), .int (nI k)] Q Y σ := by
  have hA := hV.all
  have hn := hV.n0.2
  have p1 := hV.pr hk (f := 0) (by omega)
  have p2 := zs_rest_b hV u
  have p3 := hV.c2
  obtain ⟨ga, ka, fg, fk, o1, o2, o3⟩ := hP.ol hO
  refine ze510 ⟨_, _, _, _, rfl, zc_31 (by omega) (by omega) (zqI_r.mpr ?_)⟩
  rw [zs_b0]
  refine ⟨fun hb => ?_, fun hb => ?_⟩
  · refine zo_gR o1 rfl (hP.rc (zc_94 (f := 0) hP hV hk (by omega) (zqI_r.mpr (zo_rc o1 (zc_507 hV hP hO hu fun s2 τ2 W2 b1 b2 => zqI_r.mpr ?_)))))
    have ele : V (11 + 4 * k + 0) ≤ iI (zs_rest V u) ↔ ¬ zs_rest V u < zs_p V k 0 := by
      rw [zs_p_i V k 0, iI_le (by omega) (by omega) (by omega) (by omega)]
      omega
    rw [ele]
    refine ⟨fun h1 => ?_, fun h1 => ?_⟩
    · have hw : zs_why V u t k = if t = 1 ∧ zs_rest V u < zs_thr V then 4 else 0 := by
        unfold zs_why
        rw [if_neg hb, if_neg h1]
      refine zJ_go (fun (j : Int32 → zS → Prop) => ∀ s3 τ3 W3, zc_go s σ τ W s3 τ3 W3 → zc_P L G s V C K s3 τ3 W3 q → j (nI (zs_why V u t k)) s3) (fun s3 τ3 W3 c1 c2 => h s3 τ3 W3 c1 c2) ?_
      intro j hj
      rw [hw] at hj
      refine zJ_go (fun (j' : zS → Prop) => ∀ s3 τ3 W3, zc_go s σ τ W s3 τ3 W3 → zc_P L G s V C K s3 τ3 W3 q → ¬ (t = 1 ∧ zs_rest V u < zs_thr V) → j' s3) ?_ ?_
      · intro s3 τ3 W3 c1 c2 c3
        have := hj s3 τ3 W3 c1 c2
        rw [if_neg c3] at this
        exact this
      · intro j' hj'
        have e1 : nI t = (1 : Int32) ↔ t = 1 := nI_eq (b := 1) (by omega) (by omega)
        rw [e1]
        refine ⟨fun h9 => hj' s2 τ2 W2 b1 b2 fun h8 => h9 h8.1, fun h9 => ?_⟩
        obtain ⟨ga', ka', fg', fk', o1', o2', o3'⟩ := b2.ol (b1.keep hO)
        refine zo_rc o1' (zc_507 hV b2 (b1.keep hO) hu fun s3 τ3 W3 c1 c2 => zqI_r.mpr ?_)
        obtain ⟨ga2, ka2, fg2, fk2, o12, o22, o32⟩ := c2.ol ((b1.trans c1).keep hO)
        obtain ⟨li, lp, la, hs, _⟩ := c2.cell
        refine zo_gR o12 rfl (zo_gI hs rfl ?_)
        have elt : V 2 ≤ iI (zs_rest V u) ↔ ¬ zs_rest V u < zs_thr V := by
          rw [zs_c2 V, iI_le (by omega) (by omega) (by omega) (by omega)]
          omega
        rw [elt]
        refine ⟨fun h8 => hj' s3 τ3 W3 (b1.trans c1) c2 fun h7 => h8 h7.2, fun h8 => ?_⟩
        have := hj s3 τ3 W3 (b1.trans c1) c2
        rw [if_pos ⟨h9, Classical.not_not.mp h8⟩] at this
        exact this
    · have := h s2 τ2 W2 b1 b2
      unfold zs_why at this
      rw [if_neg hb, if_pos (Classical.not_not.mp h1)] at this
      exact this
  · have := h σ τ W zc_go.rfl' hP
    unfold zs_why at this
    rw [if_pos (Classical.not_not.mp hb)] at this
    exact this
/-- what comes of a position is kept -/
theorem zc_P.oput (hV : zs_ok V) (hP : zc_P L G s V C K σ τ W q) (hO : W.2.2.1 = some o) {ga ka i : Nat} {fg fk : Nat → Int32} (h1 : σ.1 o = some (.inr (25, [va_rf (some s), va_rf (some ga), va_rf (some ka)]))) (h2 : σ.1 ga = some (.inl (0, 4 * zs_all V, .inl fg))) (h3 : σ.1 ka = some (.inl (3, 4 * zs_all V, .inl fk))) {x : Int32} (hx : ∀ u t pa, u < zs_all V → t ≤ 1 → pa ≤ 1 → i = 4 * u + 2 * t + pa → x = iI (zs_O V u t pa)) (w1 : zo_w ga (.inl (0, 4 * zs_all V, .inl (va_up fg i x))) σ σ') (w2 : zo_w ka (.inl (3, 4 * zs_all V, .inl (va_up fk i 1))) σ' σ'') : zc_P L G s V C K σ'' τ W q ∧ zo_le (· = s + 4) σ τ σ'' τ := by
  have hA := hV.all
  obtain ⟨⟨li, lp, la, Ei, Ep, Ea, hs, hPt⟩, hB, hK⟩ := hP
  obtain ⟨ga', ka', fg', fk', o1, o2, o3, o4, o5, o6, o7, o8, o9, o10⟩ := hPt.2.2.2.2.2.2.2.2.2.2.2.2.2.1 o hO
  rw [h1] at o1
  obtain ⟨eg, ek⟩ : ga = ga' ∧ ka = ka' := by
    have := congrArg (fun x : Option va_E => match x with | some (.inr (_, [_, .ref y, .ref z])) => (y, z) | _ => (0, 0)) o1
    have e3 : (ga, ka) = (ga', ka') := this
    cases e3
    exact ⟨rfl, rfl⟩
  subst eg ek
  rw [h2] at o3
  cases o3
  rw [h3] at o6
  cases o6
  have nka : ka ≠ ga := fun e => by rw [e, h2] at h3; cases h3
  have nsg : s ≠ ga := fun e => by rw [← e, hs] at h2; cases h2
  have nsk : s ≠ ka := fun e => by rw [← e, hs] at h3; cases h3
  have h3' := w1.ne h3 nka
  have le1 : zo_le (· = s + 4) σ τ σ' τ := w1.le h2 o4
  have le2 : zo_le (· = s + 4) σ τ σ'' τ := le1.trans (w2.le h3' o7)
  have hl : ∀ a len E, zc_li G σ τ a len E → a + 4 ≠ s + 4 := fun a len E hl => by
    obtain ⟨mc, arr, cap, ff, l1, _⟩ := hl
    intro e
    rw [show a = s by omega, hs] at l1
    cases l1
  have l1 := hl _ _ _ hPt.2.2.2.2.2.1
  have l2 := hl _ _ _ hPt.2.2.2.2.2.2.2.1
  have l3 := hl _ _ _ hPt.2.2.2.2.2.2.2.2.2.1
  have hne : ∀ b e, σ.1 b = some e → b ≠ ga → b ≠ ka → σ''.1 b = some e := fun b e hb n1 n2 => w2.ne (w1.ne hb n1) n2
  have c : σ''.2 = σ.2 := w2.2.2.trans w1.2.2
  refine ⟨⟨⟨li, lp, la, Ei, Ep, Ea, hne _ _ hs nsg nsk, hPt.tr' (q' := q) hK hPt.1 (fun b e hb _ ht => ⟨hne b e hb ?_ ?_, rfl⟩) (fun R' hR' hr => ?_) (fun o' ho' _ => ?_)⟩, ⟨by rw [c]; exact hB.1, by rw [c]; exact hB.2⟩, hK.mono le2 (by omega)⟩, le2⟩
  · intro e
    rw [e, o4] at ht
    omega
  · intro e
    rw [e, o7] at ht
    omega
  · obtain ⟨f, r1, r2, r3, r4⟩ := hr
    refine ⟨f, hne _ _ r1 (fun e => ?_) (fun e => ?_), r2, r3, r4⟩
    · rw [e, h2] at r1
      have e1 := congrArg (fun x : Option va_E => match x with | some (.inl y) => y.2.1 | _ => 0) r1
      have e2 : 4 * zs_all V = zs_all V := e1
      omega
    · rw [e, h3] at r1
      cases r1
  · rw [hO] at ho'
    cases ho'
    have n1 : o ≠ ga := fun e => by rw [e, h2] at h1; cases h1
    have n2 : o ≠ ka := fun e => by rw [e, h3] at h1; cases h1
    refine ⟨ga, ka, _, _, hne _ _ h1 n1 n2, o2, w2.ne w1.1 nka.symm, o4, o5, w2.1, o7, o8, fun j hj => ?_, fun u t pa hu ht hpa hk1 => ?_⟩
    · by_cases e : j = i
      · subst e
        rw [va_up_self]
        exact Or.inr rfl
      · rw [va_up_ne _ _ e]
        exact o9 j hj
    · by_cases e : 4 * u + 2 * t + pa = i
      · rw [e, va_up_self]
        exact hx u t pa hu ht hpa e.symm
      · rw [va_up_ne _ _ e]
        rw [va_up_ne _ _ e] at hk1
        exact o10 u t pa hu ht hpa hk1
end ZC9
