/-! THE COMPONENT's State: replies and results -/
section ZC8
variable {L : Nat × Nat × Nat} {G : zPg} {n : Nat} {σ σ' σ'' : zS} {τ τ' τ'' : Nat → Nat} {Q : zQ} {Y : zY} {s t a e q C K S R : Nat} {V : zs_V} {W W' W'' : zc_W} {g : Bool}
theorem zc_p2 (R : Nat) (w1 : Option Nat) (r : Option Nat × Option Nat) : zc_pc (w1, none, r) = zc_pc (w1, some R, r) + 2 ∧ zc_ps (w1, none, r) = zc_ps (w1, some R, r) + 1025 := by
  unfold zc_pc zc_ps
  simp only [if_true, reduceCtorEq, if_false]
  omega
theorem zc_P.rp (hP : zc_P L G s V C K σ τ W q) (hR : W.2.1 = some R) : zc_rp G σ τ s R V q := by
  obtain ⟨⟨li, lp, la, Ei, Ep, Ea, hs, hPt⟩, hB, hK⟩ := hP
  exact hPt.2.2.2.2.2.2.2.2.2.2.2.2.1 R hR
/-- one reply more is laid -/
theorem zc_P.rput (hV : zs_ok V) (hP : zc_P L G s V C K σ τ W q) (hR : W.2.1 = some R) {f : Nat → Int32} (hc : σ.1 R = some (.inl (0, zs_all V, .inl f))) (hf : ∀ p, p < q → f p = zs_rv V p) (hw : zo_w R (.inl (0, zs_all V, .inl (va_up f q (zs_rv V q)))) σ σ') : zc_P L G s V C K σ' τ W (q + 1) ∧ zo_le (· = s + 4) σ τ σ' τ := by
  obtain ⟨⟨li, lp, la, Ei, Ep, Ea, hs, hPt⟩, hB, hK⟩ := hP
  obtain ⟨f', r1, r2, r3, r4⟩ := hPt.2.2.2.2.2.2.2.2.2.2.2.2.1 R hR
  have nRs : s ≠ R := fun e => by rw [← e, hs] at hc; cases hc
  have hle : zo_le (· = s + 4) σ τ σ' τ := hw.le hc r2
  have hl : ∀ a len E, zc_li G σ τ a len E → a + 4 ≠ s + 4 := fun a len E hl => by
    obtain ⟨mc, arr, cap, ff, l1, _⟩ := hl
    intro e
    rw [show a = s by omega, hs] at l1
    cases l1
  have l1 := hl _ _ _ hPt.2.2.2.2.2.1
  have l2 := hl _ _ _ hPt.2.2.2.2.2.2.2.1
  have l3 := hl _ _ _ hPt.2.2.2.2.2.2.2.2.2.1
  refine ⟨⟨⟨li, lp, la, Ei, Ep, Ea, hw.ne hs nRs, hPt.tr' (q' := q + 1) hK hPt.1 (fun b e hb _ ht => ⟨hw.ne hb ?_, rfl⟩) (fun R' hR' _ => ?_) (fun o _ ho => ho.tr (fun b e hb _ ht => ⟨hw.ne hb ?_, rfl⟩) hV.all.1)⟩, ⟨by rw [hw.2.2]; exact hB.1, by rw [hw.2.2]; exact hB.2⟩, hK.mono hle (by omega)⟩, hle⟩
  · intro e
    rw [e, r2] at ht
    omega
  · rw [hR] at hR'
    cases hR'
    refine ⟨_, hw.1, r2, r3, fun p hp => ?_⟩
    by_cases hpq : p = q
    · subst hpq
      exact va_up_self _ _ _
    · rw [va_up_ne _ _ hpq]
      exact hf p (by omega)
  · intro e
    subst e
    rcases ht with ht | ⟨_, ht⟩
    · omega
    · rw [hc] at hb
      cases hb
      exact ht f rfl
theorem zc_87 (hV : zs_ok V) (hP : zc_P L G s V C K σ τ W (zs_all V)) (h : ∀ σ' τ' W' R, zc_go s σ τ W σ' τ' W' → zc_P L G s V C K σ' τ' W' (zs_all V) → W'.2.1 = some R → Q (some (va_rf (some R))) σ') : zCall G (n + 8) 87 [.ref s] Q Y σ := by
  have hA := hV.all
  obtain ⟨li, lp, la, hs, _⟩ := hP.cell
  refine ze87 ⟨_, rfl, zo_gR hs rfl ?_⟩
  refine zJ_go (fun (j : zS → Prop) => ∀ σ' τ' W' R, zc_go s σ τ W σ' τ' W' → zc_P L G s V C K σ' τ' W' (zs_all V) → W'.2.1 = some R → j σ') ?_ ?_
  · intro σ' τ' W' R a1 a2 a3
    obtain ⟨li', lp', la', hs', _⟩ := a2.cell
    refine zo_gR hs' rfl ?_
    rw [a3]
    exact h σ' τ' W' R a1 a2 a3
  · intro j hj
    clear h
    refine ⟨fun hne => ?_, fun he => ?_⟩
    · obtain ⟨R, hR⟩ : ∃ R, W.2.1 = some R := Option.ne_none_iff_exists'.mp hne
      exact hj σ τ W R zc_go.rfl' hP hR
    · refine hP.rc (zc_83 hV hP fun s1 τ1 W1 S b1 b2 b3 b4 b5 => zqR_r.mpr (b5.rc (zc_452 b5 hV (zqI_r.mpr ?_))))
      have e1 : W1.2.1 = none := by rw [b4]; exact he
      obtain ⟨⟨li1, lp1, la1, Ei, Ep, Ea, hs1, hPt⟩, ⟨B1, B2⟩, hK1⟩ := b2
      obtain ⟨w1, w2, r⟩ := W1
      have e1 : w2 = none := e1
      subst e1
      obtain ⟨p1, p2⟩ := zc_p2 s1.2.1 w1 r
      refine zo_newA (by omega) (by omega) (by omega) fun s2 m2 => ?_
      have g2 := hK1.1
      have d1 := m2.2.2.2.2.2.1
      have d2 := m2.2.2.2.2.2.2
      have d3 := m2.2.2.2.2.1
      have f2 := m2.1
      have aR := m2.at
      generalize s1.2.1 = R at *
      have nR := m2.nn hs1
      have hs2 := m2.ne hs1
      refine zo_put hs2 hPt.2.1 rfl fun s3 m3 => ?_
      have c3 : s3.2 = s2.2 := m3.2.2
      refine zo_new (by rw [c3]; omega) (by rw [c3]; omega) fun s4 m4 => ?_
      have g4 : G.1 ≤ s3.2.1 := by rw [c3]; omega
      have d4 := m4.2.2.2.2.2.1
      have d5 := m4.2.2.2.2.2.2
      rw [c3] at d4 d5
      generalize s3.2.1 = T at *
      have hs4 := m4.ne m3.1
      have aR4 : s4.1 R = some (.inl (0, zs_all V, .inl (fun _ => 0))) := m4.ne (m3.ne aR nR.symm)
      have nTs := m4.nn m3.1
      have nTR := m4.nn (m3.ne aR nR.symm)
      refine zo_gI hs4 rfl ⟨_, rfl, ?_⟩
      refine ze459 ⟨_, _, rfl, ⟨_, rfl, ze458 ⟨_, rfl, ⟨_, rfl, zqV_r.mpr ⟨hV.2.2.2.1, ?_⟩⟩⟩⟩⟩
      refine zo_put m4.at g4 rfl fun s5 m5 => zqV_r.mpr ?_
      have c5 : s5.2 = s4.2 := m5.2.2
      have hs5 := m5.ne hs4 nTs
      have aR5 := m5.ne aR4 nTR
      have hfr : ∀ b e, s1.1 b = some e → b ≠ s → s5.1 b = some e ∧ va_up (va_up τ1 R (s + 4)) T 3 b = τ1 b := fun b e hb hbs => by
        have k1 := m3.ne (m2.ne hb) hbs
        have k2 := m4.nn k1
        exact ⟨m5.ne (m4.ne k1) k2, by rw [va_up_ne _ _ k2, va_up_ne _ _ (m2.nn hb)]⟩
      have le2 : zo_le (· = s + 4) s1 τ1 s2 (va_up τ1 R (s + 4)) := m2.le (s + 4) (Or.inr (Or.inr ⟨_, by rw [show s + 4 - 4 = s by omega]; exact hs1⟩))
      have le3 : zo_le (· = s + 4) s1 τ1 s3 (va_up τ1 R (s + 4)) := le2.trans (m3.le hs2 (by show va_up τ1 R (s + 4) s = s + 4; rw [va_up_ne _ _ nR]; exact hPt.1))
      have le4 : zo_le (· = s + 4) s1 τ1 s4 (va_up (va_up τ1 R (s + 4)) T 3) := le3.trans (m4.le 3 (Or.inl (by omega)))
      have fT : s1.1 T = none := by
        have k1 := m4.1
        cases hT : s1.1 T with
        | none => rfl
        | some e =>
          have k2 := m2.ne hT
          by_cases hTs : T = s
          · exact absurd hTs.symm nTs
          · rw [m3.ne k2 hTs] at k1
            cases k1
      have le5 : zo_le (· = s + 4) s1 τ1 s5 (va_up (va_up τ1 R (s + 4)) T 3) := le4.new fT m4.at m5
      have hts : va_up (va_up τ1 R (s + 4)) T 3 s = s + 4 := (le5.tg hs1).trans hPt.1
      obtain ⟨q1, q2, q3, q4, q5, q6, q7, q8, q9, q10, q11, q12, q13, q14, q15⟩ := hPt.tr (σ' := s5) (τ' := va_up (va_up τ1 R (s + 4)) T 3) hV hK1 hts (fun b e hb hbs _ => hfr b e hb hbs) ⟨_, hs1⟩
      have tR : va_up (va_up τ1 R (s + 4)) T 3 R = s + 4 := by rw [va_up_ne _ _ nTR, va_up_self]
      have P5 : zc_P L G s V C K s5 (va_up (va_up τ1 R (s + 4)) T 3) (w1, some R, r) 0 := by
        refine ⟨⟨li1, lp1, la1, Ei, Ep, Ea, hs5, q1, q2, q3, q4, q5, q6, q7, q8, q9, q10, q11, q12, fun R' hR' => ?_, q14, q15⟩, ⟨?_, ?_⟩, hK1.mono le5 (by omega)⟩
        · cases hR'
          exact ⟨_, aR5, tR, g2, fun p hp => absurd hp (Nat.not_lt_zero _)⟩
        · rw [c5]
          omega
        · rw [c5]
          omega
      have go5 : zc_go s σ τ W s5 (va_up (va_up τ1 R (s + 4)) T 3) (w1, some R, r) := by
        obtain ⟨b1a, b1b, b1c, b1d, b1e⟩ := b1
        have hWb : W.2 = (none, r) := b4.symm
        refine ⟨b1a.trans le5, b1b, fun hh => absurd he hh, ?_, ?_⟩
        · intro _
          show r.1 = W.2.2.1
          rw [hWb]
        · intro _
          show r.2 = W.2.2.2
          rw [hWb]
      have hta : zc_ta s5 (va_up (va_up τ1 R (s + 4)) T 3) s T V true := ⟨by rw [va_up_self]; omega, m5.1⟩
      clear hfr le2 le3 le4 le5 aR5 aR4 hs5 hs4 q1 q2 q3 q4 q5 q6 q7 q8 q9 q10 q11 q12 q13 q14 q15 hPt
      refine zf2 0 (zs_all V) (fun k s' => ∃ τ' W', zc_go s σ τ W s' τ' W' ∧ zc_P L G s V C K s' τ' W' k ∧ W'.2.1 = some R ∧ zc_ta s' τ' s T V true) (by omega) ?_ ?_ ⟨_, _, go5, P5, rfl, hta⟩
      · rintro rec k s' _ hk ⟨τ', W', a1, a2, a3, a4⟩ hrec
        obtain ⟨li2, lp2, la2, hs', _⟩ := a2.cell
        obtain ⟨f, r1, r2, r3, r4⟩ := a2.rp a3
        refine zo_gR hs' rfl ?_
        rw [a3]
        refine zo_ln r1 ⟨fun h9 => absurd h9 (nI_ge hk (by omega)), fun _ => zo_gR hs' rfl ?_⟩
        rw [a3]
        refine zo_rc hs' (zc_84 hV a2 hk fun s6 τ6 W6 c1 c2 c4 => zqI_r.mpr ?_)
        rw [zs_b0]
        have hR6 : W6.2.1 = some R := by rw [c4]; exact a3
        have hta6 : zc_ta s6 τ6 s T V true := a4.mono c1
        refine zJ_go (fun (j' : Int32 → zS → Prop) => ∀ s7 τ7 W7, zc_go s s' τ' W' s7 τ7 W7 → zc_P L G s V C K s7 τ7 W7 k → W7.2.1 = some R → zc_ta s7 τ7 s T V true → j' (zs_rv V k) s7) ?_ ?_
        · intro s7 τ7 W7 e1 e2 e3 e4
          obtain ⟨f7, k1, k2, k3, k4⟩ := e2.rp e3
          refine zo_sI k1 k3 hk (by omega) fun s8 m8 v hv => ?_
          subst hv
          obtain ⟨P8, le8⟩ := e2.rput hV e3 k1 k4 m8
          exact hrec s8 ⟨τ7, W7, (a1.trans e1).trans ⟨le8, zc_wl.rfl'⟩, P8, e3, e4.mono (W := W7) (W' := W7) ⟨le8, zc_wl.rfl'⟩⟩
        · intro j' hj'
          refine ⟨fun hno => ?_, fun hyes => ?_⟩
          · have := hj' s6 τ6 W6 c1 c2 hR6 hta6
            unfold zs_rv at this
            rw [if_neg hno] at this
            exact this
          · have hyes := Classical.not_not.mp hyes
            refine c2.rc (zc_88 hV c2 hta6 hk fun s7 τ7 W7 e1 e2 e3 => zqI_r.mpr ?_)
            have := hj' s7 τ7 W7 (c1.trans e1) e2 (by rw [e3]; exact hR6) (hta6.mono e1)
            unfold zs_rv at this
            rw [if_pos hyes] at this
            exact this
      · rintro rec s' ⟨τ', W', a1, a2, a3, a4⟩
        obtain ⟨li2, lp2, la2, hs', _⟩ := a2.cell
        obtain ⟨f, r1, r2, r3, r4⟩ := a2.rp a3
        refine zo_gR hs' rfl ?_
        rw [a3]
        exact zo_ln r1 ⟨fun _ => hj s' τ' W' R a1 a2 a3, fun h9 => absurd (nI_le (Nat.le_refl _) (by omega)) h9⟩
theorem zc_104 (hV : zs_ok V) (hP : zc_P L G s V C K σ τ W (zs_all V)) {p : Nat} (hp : p < zs_all V) (hf : zs_w V 0 p ≤ zs_cap V) (h : ∀ σ' τ' W', zc_go s σ τ W σ' τ' W' → zc_P L G s V C K σ' τ' W' (zs_all V) → Q (some (.int (nI (zs_rep V true (zs_thr V) p)))) σ') : zCall G (n + 9) 104 [.ref s, .int (nI p)] Q Y σ := by
  have hA := hV.all
  have hw := zs_w_b hV (f := 0) (by omega) p
  have hc1 := hV.c1
  have hc2 := hV.c2
  refine ze104 ⟨_, _, rfl, hP.rc (zc_86 hV hP hp fun s1 τ1 W1 a1 a2 a3 => zqI_r.mpr ?_)⟩
  obtain ⟨li, lp, la, hs, _⟩ := a2.cell
  refine zo_gI hs rfl ?_
  have ele : V 2 ≤ iI (zs_cap V - zs_w V 0 p) ↔ ¬ zs_cap V - zs_w V 0 p < zs_thr V := by
    rw [zs_c2 V, iI_le (by omega) (by omega) (by omega) (by omega)]
    omega
  rw [ele]
  refine zJ_go (fun (j : Int32 → zS → Prop) => ∀ s2 τ2 W2, zc_go s σ τ W s2 τ2 W2 → zc_P L G s V C K s2 τ2 W2 (zs_all V) → j (nI (zs_rep V true (zs_thr V) p)) s2) (fun s2 τ2 W2 b1 b2 => h s2 τ2 W2 b1 b2) ?_
  intro j hj
  refine ⟨fun hge => ?_, fun hlt => ?_⟩
  · refine zo_rc hs (zc_87 hV a2 fun s2 τ2 W2 R b1 b2 b3 => zqR_r.mpr ?_)
    obtain ⟨f, r1, r2, r3, r4⟩ := b2.rp b3
    refine zo_aI r1 hp (by omega) ?_
    have := hj s2 τ2 W2 (a1.trans b1) b2
    rw [r4 p hp]
    unfold zs_rv
    rw [if_pos hf]
    unfold zs_rep at this
    rw [if_neg hge] at this
    exact this
  · have := hj s1 τ1 W1 a1 a2
    unfold zs_rep at this
    rw [if_pos (Classical.not_not.mp hlt)] at this
    exact this
theorem zc_85 (hV : zs_ok V) (hP : zc_P L G s V C K σ τ W (zs_all V)) {p : Nat} (hp : p < zs_all V) (hf : zs_w V 0 p ≤ zs_cap V) {x : Int32} (h : ∀ σ' τ' W', zc_go s σ τ W σ' τ' W' → zc_P L G s V C K σ' τ' W' (zs_all V) → Q (some (.int (iI (zs_res V true x.toInt p)))) σ') : zCall G (n + 9) 85 [.ref s, .int (nI p), .int x] Q Y σ := by
  have hA := hV.all
  have hw := zs_w_b hV (f := 0) (by omega) p
  have hc1 := hV.c1
  refine ze85 ⟨_, _, _, rfl, hP.rc (zc_83 hV hP fun s1 τ1 W1 S a1 a2 a3 a4 a5 => zqR_r.mpr (a5.at hV (f := 1) (by omega) hp (a2.rc (zc_86 hV a2 hp fun s2 τ2 W2 b1 b2 b3 => zqI_r.mpr ?_))))⟩
  have ele : x ≤ iI (zs_cap V - zs_w V 0 p) ↔ ¬ zs_cap V - zs_w V 0 p < x.toInt := by
    rw [fa_le, iI_to (by omega) (by omega)]
    omega
  rw [ele]
  refine zJ_go (fun (j : Int32 → zS → Prop) => ∀ s3 τ3 W3, zc_go s σ τ W s3 τ3 W3 → zc_P L G s V C K s3 τ3 W3 (zs_all V) → j (iI (zs_w V 3 (zs_rep V true x.toInt p))) s3) ?_ ?_
  · intro s3 τ3 W3 c1 c2
    rw [iI_sub]
    exact h s3 τ3 W3 c1 c2
  · intro j hj
    refine ⟨fun hge => ?_, fun hlt => ?_⟩
    · refine b2.rc (zc_83 hV b2 fun s3 τ3 W3 S3 c1 c2 c3 c4 c5 => zqR_r.mpr ?_)
      have hc5 := c5
      obtain ⟨m1, o, gg, m2, m3, m4, m5⟩ := c5
      obtain ⟨b, fn, k1, k2, k3, k4⟩ := m5 3 (by omega)
      refine zo_gR m2 rfl (zo_aR (p := 3) m3 (by omega) (by omega) (c2.rc (zc_87 hV c2 fun s4 τ4 W4 R d1 d2 d3 => zqR_r.mpr ?_)))
      obtain ⟨f, r1, r2, r3, r4⟩ := d2.rp d3
      refine zo_aI r1 hp (by omega) ?_
      rw [r4 p hp, k1]
      unfold zs_rv
      rw [if_pos hf]
      have hlt := zs_best_lt hV (g := true) (p := p)
      refine zo_aI (d1.1.at k2 (by rw [k3]; omega)) hlt (by omega) ?_
      rw [k4 _ hlt]
      have := hj s4 τ4 W4 (((a1.trans b1).trans c1).trans d1) d2
      unfold zs_rep at this
      rw [if_neg hge] at this
      exact this
    · have := hj s2 τ2 W2 (a1.trans b1) b2
      unfold zs_rep at this
      rw [if_pos (Classical.not_not.mp hlt), zs_w0] at this
      exact this
theorem zc_102 (hV : zs_ok V) (hP : zc_P L G s V C K σ τ W (zs_all V)) {p : Nat} (hp : p < zs_all V) (hf : zs_w V 0 p ≤ zs_cap V) (h : ∀ σ' τ' W', zc_go s σ τ W σ' τ' W' → zc_P L G s V C K σ' τ' W' (zs_all V) → Q (some (.int (iI (zs_res V true (zs_thr V) p)))) σ') : zCall G (n + 10) 102 [.ref s, .int (nI p)] Q Y σ := by
  obtain ⟨li, lp, la, hs, _⟩ := hP.cell
  refine ze102 ⟨_, _, rfl, zo_gI hs rfl (zo_rc hs (zc_85 hV hP hp hf fun s1 τ1 W1 a1 a2 => zqI_r.mpr ?_))⟩
  exact h s1 τ1 W1 a1 a2
theorem zc_82 (hV : zs_ok V) (hP : zc_P L G s V C K σ τ W (zs_all V)) {x y : Int32} (h : ∀ σ' τ' W', zc_go s σ τ W σ' τ' W' → zc_P L G s V C K σ' τ' W' (zs_all V) → Q (some (.int (nI (zs_pw V x.toInt y.toInt)))) σ') : zCall G (n + 10) 82 [.ref s, .int x, .int y] Q Y σ := by
  have hA := hV.all
  refine ze82 ⟨_, _, _, rfl, ?_⟩
  refine zf3 0 (zs_all V) (fun k (z : Int32) s' => ∃ τ' W', zc_go s σ τ W s' τ' W' ∧ zc_P L G s V C K s' τ' W' (zs_all V) ∧ z = nI (zs_ct (fun p => zs_w V 0 p ≤ zs_cap V ∧ x.toInt ≤ zs_res V true y.toInt p) k)) (by omega) ?_ ?_ ⟨τ, W, zc_go.rfl', hP, rfl⟩
  · rintro rec k z s' _ hk ⟨τ', W', a1, a2, rfl⟩ hrec
    refine a2.rc (zc_83 hV a2 fun s1 τ1 W1 S b1 b2 b3 b4 b5 => zqR_r.mpr (b5.rc (zc_452 b5 hV (zqI_r.mpr ?_))))
    refine ⟨fun h9 => absurd h9 (nI_ge hk (by omega)), fun _ => b2.rc (zc_84 hV b2 hk fun s2 τ2 W2 c1 c2 _ => zqI_r.mpr ?_)⟩
    rw [zs_b0]
    refine zJ_go (fun (j : Int32 → zS → Prop) => ∀ s3 τ3 W3, zc_go s σ τ W s3 τ3 W3 → zc_P L G s V C K s3 τ3 W3 (zs_all V) → j (zs_b (zs_w V 0 k ≤ zs_cap V ∧ x.toInt ≤ zs_res V true y.toInt k)) s3) ?_ ?_
    · intro s3 τ3 W3 d1 d2
      refine zc_27b (zqI_r.mpr fun v hv => ?_)
      subst hv
      refine hrec _ _ ⟨τ3, W3, d1, d2, ?_⟩
      by_cases h1 : zs_w V 0 k ≤ zs_cap V ∧ x.toInt ≤ zs_res V true y.toInt k
      · simp only [zs_ct, if_pos h1, zs_bt h1]
        show nI _ + nI 1 = _
        rw [nI_add]
      · simp only [zs_ct, if_neg h1, zs_bf h1]
        show nI _ + nI 0 = _
        rw [nI_add]
    · intro j hj
      refine zJ_go (fun (j' : zS → Prop) => ∀ s3 τ3 W3, zc_go s σ τ W s3 τ3 W3 → zc_P L G s V C K s3 τ3 W3 (zs_all V) → ¬ (zs_w V 0 k ≤ zs_cap V ∧ x.toInt ≤ zs_res V true y.toInt k) → j' s3) ?_ ?_
      · intro s3 τ3 W3 d1 d2 d3
        have := hj s3 τ3 W3 d1 d2
        rw [zs_bf d3] at this
        exact this
      · intro j' hj'
        have g2 : zc_go s σ τ W s2 τ2 W2 := (a1.trans b1).trans c1
        refine ⟨fun hno => hj' s2 τ2 W2 g2 c2 fun h9 => hno h9.1, fun hyes => ?_⟩
        have hyes := Classical.not_not.mp hyes
        have hb := zs_res_b hV (g := true) (t := y.toInt) (p := k)
        refine c2.rc (zc_85 hV c2 hk hyes fun s3 τ3 W3 d1 d2 => zqI_r.mpr ?_)
        have elt : iI (zs_res V true y.toInt k) < x ↔ ¬ x.toInt ≤ zs_res V true y.toInt k := by
          rw [fa_lt, iI_to (by omega) (by omega)]
          omega
        rw [elt]
        refine ⟨fun h9 => hj' s3 τ3 W3 (g2.trans d1) d2 fun h8 => h9 h8.2, fun h9 => ?_⟩
        have := hj s3 τ3 W3 (g2.trans d1) d2
        rw [zs_bt ⟨hyes, Classical.not_not.mp h9⟩] at this
        exact this
  · rintro rec z s' ⟨τ', W', a1, a2, rfl⟩
    refine a2.rc (zc_83 hV a2 fun s1 τ1 W1 S b1 b2 b3 b4 b5 => zqR_r.mpr (b5.rc (zc_452 b5 hV (zqI_r.mpr ?_))))
    exact ⟨fun _ => h s1 τ1 W1 (a1.trans b1) b2, fun hn => absurd (nI_le (Nat.le_refl _) (by omega)) hn⟩
end ZC8
