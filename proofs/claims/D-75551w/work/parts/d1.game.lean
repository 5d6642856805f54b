/-! THE COMPONENT's State: the game -/
theorem zs_fr_ov {V : zs_V} (hV : zs_ok V) : zs_fr V (zs_us V) (zs_tu V) (zs_pa V) = if zs_ov V = true then 0 else zs_O V (zs_us V) (zs_tu V) (zs_pa V) := by
  have hp := hV.pa.2
  unfold zs_fr
  by_cases h2 : zs_pa V = 2
  · rw [if_pos h2]
    split <;> rename_i h
    · rfl
    · exact absurd (by unfold zs_ov; simp [h2]) h
  · rw [if_neg h2]
    split <;> rename_i h
    · have hc : zs_can V (zs_us V) = false := by
        unfold zs_ov at h
        simpa [h2] using h
      rw [zs_O_eq hV (by omega), if_neg (by rw [hc]; decide)]
    · rfl
theorem zs_why_rn {V : zs_V} (hV : zs_ok V) {k : Nat} (h : ¬ zs_ov V = true) : zs_why V (zs_us V) (zs_tu V) k = zs_rn V k := by
  have ht := hV.tu.2
  have h0 := zs_why0 (V := V) (u := zs_us V) (k := k) ht
  unfold zs_rn
  rw [if_neg h]
  unfold zs_why at h0 ⊢
  by_cases h1 : (zs_us V).testBit k = true
  · rw [if_pos h1, if_pos h1]
  · rw [if_neg h1] at h0
    rw [if_neg h1, if_neg h1]
    by_cases h2 : zs_rest V (zs_us V) < zs_p V k 0
    · rw [if_pos h2, if_pos h2]
    · rw [if_neg h2] at h0
      rw [if_neg h2, if_neg h2]
      by_cases h3 : zs_tu V = 1 ∧ zs_rest V (zs_us V) < zs_thr V
      · rw [if_pos h3] at h0
        rw [if_pos h3, if_neg (fun h9 => absurd (h0.mpr h9) (by omega))]
      · rw [if_neg h3] at h0
        rw [if_neg h3, if_pos (h0.mp rfl)]
section ZD1
variable {L : Nat × Nat × Nat} {G : zPg} {n : Nat} {σ σ' σ'' : zS} {τ τ' τ'' : Nat → Nat} {Q : zQ} {Y : zY} {s t a e q C K o u k pa : Nat} {V : zs_V} {W W' W'' : zc_W}
theorem zc_p3 (o : Nat) (w1 w2 w4 : Option Nat) : zc_pc (w1, w2, none, w4) = zc_pc (w1, w2, some o, w4) + 3 ∧ zc_ps (w1, w2, none, w4) = zc_ps (w1, w2, some o, w4) + 8195 := by
  unfold zc_pc zc_ps
  simp only [if_true, reduceCtorEq, if_false]
  omega
theorem zc_98 (hV : zs_ok V) (hC : 1 ≤ C) (hKK : 3 ≤ K) (hP : zc_P L G s V C K σ τ W q) (h : ∀ σ' τ' W' o, zc_go s σ τ W σ' τ' W' → zc_P L G s V C K σ' τ' W' q → W'.2.2.1 = some o → Q (some (va_rf (some o))) σ') : zCall G (n + 7) 98 [.ref s] Q Y σ := by
  have hA := hV.all
  have hP' := hP
  obtain ⟨⟨li, lp, la, Ei, Ep, Ea, hs, hPt⟩, ⟨B1, B2⟩, hK⟩ := hP
  refine ze98 ⟨_, rfl, zo_gR hs rfl ?_⟩
  refine zJ_go (fun (j : zS → Prop) => ∀ σ' τ' W' o, zc_go s σ τ W σ' τ' W' → zc_P L G s V C K σ' τ' W' q → W'.2.2.1 = some o → j σ') ?_ ?_
  · intro σ' τ' W' o a1 a2 a3
    obtain ⟨li', lp', la', hs', _⟩ := a2.cell
    refine zo_gR hs' rfl ?_
    rw [a3]
    exact h σ' τ' W' o a1 a2 a3
  · intro j hj
    clear h
    refine ⟨fun hne => ?_, fun he => ?_⟩
    · obtain ⟨o, ho⟩ : ∃ o, W.2.2.1 = some o := Option.ne_none_iff_exists'.mp hne
      exact hj σ τ W o zc_go.rfl' hP' ho
    · have no : ∀ x, ¬ zo_no x := fun x h => h
      have B1' : 3 ≤ zc_pc W ∧ 8195 ≤ zc_ps W := by
        obtain ⟨w1, w2, w3, w4⟩ := W
        have he : w3 = none := he
        subst he
        have := zc_p3 0 w1 w2 w4
        omega
      refine zo_new (by omega) (by omega) fun s1 m1 => ?_
      have h0 := m1.1
      have hg := hK.1
      have d1 := m1.2.2.2.2.2.1
      have d2 := m1.2.2.2.2.2.2
      have no1 := m1.nn hs
      generalize σ.2.1 = o at *
      refine ⟨_, rfl, ?_⟩
      refine ze504 ⟨_, _, rfl, ⟨_, rfl, ?_⟩⟩
      refine zo_put m1.at hg rfl fun s2 m2 => ?_
      have le2 : zo_le zo_no σ τ s2 (va_up τ o 3) := (m1.le 3 (Or.inl (by omega))).new h0 m1.at m2
      have c2 : s2.2 = s1.2 := m2.2.2
      have P2 : zc_P L G s V (C - 1) (K - 3) s2 (va_up τ o 3) W q := by
        refine ⟨hP'.1.mono hV hK le2 (no _) (no _) (fun _ _ _ => no _), ⟨?_, ?_⟩, hK.mono le2 (no _)⟩
        · rw [c2]; omega
        · rw [c2]; omega
      have ho2 : s2.1 o = some (.inr (25, [va_rf (some s), va_rf none, va_rf none])) := m2.1
      refine P2.rc (zc_83 hV P2 fun s3 τ3 W3 S b1 b2 b3 b4 b5 => zqR_r.mpr (b5.rc (zc_452 b5 hV (zqI_r.mpr ?_))))
      have to2 : va_up τ o 3 o = 3 := va_up_self _ _ _
      have ho3 := b1.1.at ho2 (by rw [to2]; omega)
      have to3 : τ3 o = 3 := (b1.1.tg ho2).trans to2
      have le3 : zo_le (· = s + 4) σ τ s3 τ3 := (le2.wide (fun _ h => h.elim)).trans b1.1
      rw [show (4 : Int32) * nI (zs_all V) = nI (4 * zs_all V) from zn_mul 4 (zs_all V)]
      obtain ⟨⟨li3, lp3, la3, Ei3, Ep3, Ea3, hs3, hPt3⟩, ⟨D1, D2⟩, hK3⟩ := b2
      have D1' : 3 ≤ zc_pc W3 ∧ 8195 ≤ zc_ps W3 := by
        obtain ⟨w1, w2, w3, w4⟩ := W3
        have he3 : w3 = none := by
          have : (w2, w3, w4) = W.2 := b4
          rw [← this] at he
          exact he
        subst he3
        have := zc_p3 0 w1 w2 w4
        omega
      refine zo_newA (by omega) (by omega) (by omega) fun s4 m4 => ?_
      have g4 := hK3.1
      have e1 := m4.2.2.2.2.2.1
      have e2 := m4.2.2.2.2.2.2
      have e3 := m4.2.2.2.2.1
      generalize s3.2.1 = ga at *
      have nog := m4.nn ho3
      have nsg := m4.nn hs3
      refine zo_put (m4.ne ho3) hg rfl fun s5 m5 => ?_
      have ho5 : s5.1 o = some (.inr (25, [va_rf (some s), va_rf (some ga), va_rf none])) := m5.1
      have hga5 := m5.ne m4.at nog.symm
      have c5 : s5.2 = s4.2 := m5.2.2
      refine zo_gR ho5 rfl (zo_ln hga5 ?_)
      refine zo_newA (by omega) (by rw [c5]; omega) (by rw [c5]; omega) fun s6 m6 => ?_
      have g6 : G.1 ≤ s5.2.1 := by rw [c5]; omega
      have e4 := m6.2.2.2.2.2.1
      have e5 := m6.2.2.2.2.2.2
      rw [c5] at e4 e5
      generalize s5.2.1 = ka at *
      have nok := m6.nn ho5
      have ngk := m6.nn hga5
      refine zo_put (m6.ne ho5) hg rfl fun s7 m7 => zqV_r.mpr ?_
      have ho7 : s7.1 o = some (.inr (25, [va_rf (some s), va_rf (some ga), va_rf (some ka)])) := m7.1
      have hga7 := m7.ne (m6.ne hga5) nog.symm
      have hka7 := m7.ne m6.at nok.symm
      have hs4 := m4.ne hs3
      have hs5 := m5.ne hs4 no1
      have hs6 := m6.ne hs5
      have nsk := m6.nn hs5
      have hs7 := m7.ne hs6 no1
      refine zo_put hs7 hPt.2.1 rfl fun s8 m8 => ?_
      have ts3 := hPt3.1
      have le4 : zo_le (· = s + 4) σ τ s4 (va_up τ3 ga (s + 4)) := le3.trans (m4.le (s + 4) (Or.inr (Or.inr ⟨_, by rw [show s + 4 - 4 = s by omega]; exact hs3⟩)))
      have le5 := le4.new h0 (m4.ne ho3) m5
      have le6 : zo_le (· = s + 4) σ τ s6 (va_up (va_up τ3 ga (s + 4)) ka (s + 4)) := le5.trans (m6.le (s + 4) (Or.inr (Or.inr ⟨_, by rw [show s + 4 - 4 = s by omega]; exact hs5⟩)))
      have le7 := le6.new h0 (m6.ne ho5) m7
      have ts7 : va_up (va_up τ3 ga (s + 4)) ka (s + 4) s = s + 4 := by rw [va_up_ne _ _ nsk, va_up_ne _ _ nsg]; exact ts3
      have le8 : zo_le (· = s + 4) σ τ s8 (va_up (va_up τ3 ga (s + 4)) ka (s + 4)) := le7.trans (m8.le hs7 ts7)
      have le9 : zo_le (· = s + 4) σ τ s8 (va_up (va_up (va_up τ3 ga (s + 4)) ka (s + 4)) o 0) := le8.tag h0 0 (Or.inl (by omega))
      have ts9 : va_up (va_up (va_up τ3 ga (s + 4)) ka (s + 4)) o 0 s = s + 4 := by rw [va_up_ne _ _ no1]; exact ts7
      have tg9 : va_up (va_up (va_up τ3 ga (s + 4)) ka (s + 4)) o 0 ga = s + 4 := by rw [va_up_ne _ _ nog.symm, va_up_ne _ _ ngk, va_up_self]
      have tk9 : va_up (va_up (va_up τ3 ga (s + 4)) ka (s + 4)) o 0 ka = s + 4 := by rw [va_up_ne _ _ nok.symm, va_up_self]
      have to9 : va_up (va_up (va_up τ3 ga (s + 4)) ka (s + 4)) o 0 o = 0 := va_up_self _ _ _
      obtain ⟨q1, q2, q3, q4, q5, q6, q7, q8, q9, q10, q11, q12, q13, q14, q15⟩ := hPt3.tr (σ' := s8) (τ' := va_up (va_up (va_up τ3 ga (s + 4)) ka (s + 4)) o 0) hV hK3 ts9 (fun b e hb hbs ht => by
        have nbo : b ≠ o := fun e => by rw [e, to3] at ht; omega
        have x1 := m5.ne (m4.ne hb) nbo
        have x2 := m6.nn x1
        exact ⟨m8.ne (m7.ne (m6.ne x1) nbo) hbs, by rw [va_up_ne _ _ nbo, va_up_ne _ _ x2, va_up_ne _ _ (m4.nn hb)]⟩) ⟨_, hs3⟩
      obtain ⟨w1, w2, w3, w4⟩ := W3
      have eW : (w2, w3, w4) = W.2 := b4
      have he3 : w3 = none := by
        rw [← eW] at he
        exact he
      subst he3
      obtain ⟨p1, p2⟩ := zc_p3 o w1 w2 w4
      have c7 : s7.2 = s6.2 := m7.2.2
      have c8 : s8.2 = s7.2 := m8.2.2
      refine hj s8 (va_up (va_up (va_up τ3 ga (s + 4)) ka (s + 4)) o 0) (w1, w2, some o, w4) o ⟨le9, b1.2.1, b1.2.2.1, fun hh => absurd he hh, b1.2.2.2.2⟩ ⟨⟨li3, lp3, la3, Ei3, Ep3, Ea3, m8.1, q1, q2, q3, q4, q5, q6, q7, q8, q9, q10, q11, q12, q13, fun o' ho' => ?_, q15⟩, ⟨?_, ?_⟩, hK.mono le9 (by omega)⟩ rfl
      · cases ho'
        have no8 : o ≠ s := fun e => no1 e.symm
        refine ⟨ga, ka, _, _, m8.ne ho7 no8, to9, m8.ne hga7 nsg.symm, tg9, g4, m8.ne hka7 nsk.symm, tk9, g6, fun i hi => Or.inl rfl, fun u t pa _ _ _ h1 => absurd h1 (by decide)⟩
      · rw [c8, c7]
        omega
      · rw [c8, c7]
        omega
theorem zc_99 (hV : zs_ok V) (hP : zc_P L G s V C K σ τ W q) (h : Q (some (.int (nI (zs_us V)))) σ) : zCall G (n + 1) 99 [.ref s] Q Y σ := by
  obtain ⟨li, lp, la, hs, _⟩ := hP.cell
  refine ze99 ⟨_, rfl, zo_gI hs rfl (zo_gI hs rfl ?_)⟩
  rw [hV.us.1]
  exact h
theorem zc_101 (hV : zs_ok V) (hC : 1 ≤ C) (hKK : 3 ≤ K) (hP : zc_P L G s V C K σ τ W q) (h : ∀ σ' τ' W', zc_go s σ τ W σ' τ' W' → zc_P L G s V C K σ' τ' W' q → Q (some (.int (zs_b (zs_ov V = true)))) σ') : zCall G (n + 8) 101 [.ref s] Q Y σ := by
  refine ze101 ⟨_, rfl, hP.rc (zc_98 hV hC hKK hP fun s1 τ1 W1 o a1 a2 a3 => zqR_r.mpr (a2.rc (zc_99 hV a2 (zqI_r.mpr ?_))))⟩
  obtain ⟨li, lp, la, hs, _⟩ := a2.cell
  obtain ⟨ga, ka, fg, fk, o1, _⟩ := a2.ol a3
  refine zo_gI hs rfl (zo_rc o1 ?_)
  rw [hV.pa.1]
  refine zc_506 hV a2 a3 hV.us.2.1 hV.pa.2 fun s2 τ2 W2 b1 b2 => zqI_r.mpr ?_
  have e : zs_b (zs_pa V = 2 ∨ zs_can V (zs_us V) = false) = zs_b (zs_ov V = true) := zs_bcong (by unfold zs_ov; simp)
  rw [e]
  exact ⟨zs_bb, h s2 τ2 W2 (a1.trans b1) b2⟩
theorem zc_97 (hV : zs_ok V) (hP : zc_P L G s V C K σ τ W q) (h : ∀ σ' τ' W', zc_go s σ τ W σ' τ' W' → zc_P L G s V C K σ' τ' W' q → Q (some (.int (iI (zs_w V 1 (V 6).toNatClampNeg - zs_w V 3 (V 7).toNatClampNeg)))) σ') : zCall G (n + 6) 97 [.ref s] Q Y σ := by
  have hA := hV.all
  refine ze97 ⟨_, rfl, hP.rc (zc_83 hV hP fun s1 τ1 W1 S a1 a2 a3 a4 a5 => zqR_r.mpr ?_)⟩
  obtain ⟨m1, o, g, m2, m3, m4, m5⟩ := a5
  obtain ⟨b, fn, k1, k2, k3, k4⟩ := m5 1 (by omega)
  obtain ⟨li, lp, la, hs, _⟩ := a2.cell
  refine zo_gR m2 rfl (zo_aR (p := 1) m3 (by omega) (by omega) (zo_gI hs rfl ?_))
  rw [k1, hV.g6.1]
  refine zo_aI k2 hV.g6.2 (by omega) (zo_rc hs (zc_83 hV a2 fun s2 τ2 W2 S2 b1 b2 b3 b4 b5 => zqR_r.mpr ?_))
  obtain ⟨m12, o2, g2, m22, m32, m42, m52⟩ := b5
  obtain ⟨bb, fn2, k12, k22, k32, k42⟩ := m52 3 (by omega)
  obtain ⟨li2, lp2, la2, hs2, _⟩ := b2.cell
  refine zo_gR m22 rfl (zo_aR (p := 3) m32 (by omega) (by omega) (zo_gI hs2 rfl ?_))
  rw [k12, hV.g7.1]
  refine zo_aI k22 hV.g7.2 (by omega) ?_
  rw [k4 _ hV.g6.2, k42 _ hV.g7.2, iI_sub]
  exact h s2 τ2 W2 (a1.trans b1) b2
theorem zc_96 (hV : zs_ok V) (hC : 1 ≤ C) (hKK : 3 ≤ K) (hP : zc_P L G s V C K σ τ W q) (h : ∀ σ' τ' W', zc_go s σ τ W σ' τ' W' → zc_P L G s V C K σ' τ' W' q → Q (some (.int (iI (zs_w V 1 (V 6).toNatClampNeg - zs_w V 3 (V 7).toNatClampNeg + (if zs_ov V = true then 0 else zs_O V (zs_us V) (zs_tu V) (zs_pa V)))))) σ') : zCall G (n + 75) 96 [.ref s] Q Y σ := by
  refine ze96 ⟨_, rfl, hP.rc (zc_97 hV hP fun s1 τ1 W1 a1 a2 => zqI_r.mpr (a2.rc (zc_98 hV hC hKK a2 fun s2 τ2 W2 o b1 b2 b3 => zqR_r.mpr (b2.rc (zc_99 hV b2 (zqI_r.mpr ?_))))))⟩
  obtain ⟨li, lp, la, hs, _⟩ := b2.cell
  obtain ⟨ga, ka, fg, fk, o1, _⟩ := b2.ol b3
  refine zo_gI hs rfl (zo_gI hs rfl (zo_rc o1 ?_))
  rw [hV.tu.1, hV.pa.1]
  have hun := zs_un_le hV (zs_us V)
  refine zc_505 hV 22 s2 τ2 W2 (zs_us V) (zs_tu V) (zs_pa V) _ _ _ b2 b3 hV.us.2.1 hV.tu.2 hV.pa.2 (Or.inr (by omega)) (by omega) fun s3 τ3 W3 c1 c2 => zqI_r.mpr ?_
  rw [zs_fr_ov hV, iI_add]
  exact h s3 τ3 W3 ((a1.trans b1).trans c1) c2
theorem zc_111 (hV : zs_ok V) (hC : 1 ≤ C) (hKK : 3 ≤ K) (hP : zc_P L G s V C K σ τ W q) (hk : k < zs_n V) (h : ∀ σ' τ' W', zc_go s σ τ W σ' τ' W' → zc_P L G s V C K σ' τ' W' q → Q (some (.int (nI (zs_rn V k)))) σ') : zCall G (n + 9) 111 [.ref s, .int (nI k)] Q Y σ := by
  refine ze111 ⟨_, _, rfl, hP.rc (zc_101 hV hC hKK hP fun s1 τ1 W1 a1 a2 => zqI_r.mpr ?_)⟩
  rw [zs_b0]
  refine zJ_go (fun (j : Int32 → zS → Prop) => ∀ s2 τ2 W2, zc_go s σ τ W s2 τ2 W2 → zc_P L G s V C K s2 τ2 W2 q → j (nI (zs_rn V k)) s2) (fun s2 τ2 W2 b1 b2 => h s2 τ2 W2 b1 b2) ?_
  intro j hj
  refine ⟨fun hno => a2.rc (zc_98 hV hC hKK a2 fun s2 τ2 W2 o b1 b2 b3 => zqR_r.mpr (b2.rc (zc_99 hV b2 (zqI_r.mpr ?_)))), fun hyes => ?_⟩
  · obtain ⟨li, lp, la, hs, _⟩ := b2.cell
    obtain ⟨ga, ka, fg, fk, o1, _⟩ := b2.ol b3
    refine zo_gI hs rfl (zo_rc o1 ?_)
    rw [hV.tu.1]
    refine zc_510 hV b2 b3 hV.us.2.1 hV.tu.2 hk fun s3 τ3 W3 c1 c2 => zqI_r.mpr ?_
    rw [zs_why_rn hV hno]
    exact hj s3 τ3 W3 ((a1.trans b1).trans c1) c2
  · have := hj s1 τ1 W1 a1 a2
    unfold zs_rn at this
    rw [if_pos (Classical.not_not.mp hyes)] at this
    exact this
theorem zc_512 (hV : zs_ok V) (hP : zc_P L G s V C K σ τ W q) (hO : W.2.2.1 = some o) (hu : u < zs_all V) (ht : t ≤ 1) (hpa : pa ≤ 1) (h : ∀ σ' τ' W', zc_go s σ τ W σ' τ' W' → zc_P L G s V C K σ' τ' W' q → Q (some (.int (zs_mo (zs_mv V u t pa (zs_n V))))) σ') : zCall G (n + 76) 512 [.ref o, .int (nI u), .int (nI t), .int (nI pa)] Q Y σ := by
  have hn := hV.n0.2
  have hun := zs_un_le hV u
  have hst : ∀ k i j, k ≤ j → zs_mv V u t pa k = some i → zs_mv V u t pa j = some i := by
    intro k i j
    induction j with
    | zero => intro hkj hk; rw [show k = 0 by omega] at hk; exact hk
    | succ j ih =>
      intro hkj hk
      by_cases e : k = j + 1
      · rw [← e]; exact hk
      · simp only [zs_mv, ih (by omega) hk]
  refine ze512 ⟨_, _, _, _, rfl, ?_⟩
  refine zf2 0 (zs_n V) (fun k s' => ∃ τ' W', zc_go s σ τ W s' τ' W' ∧ zc_P L G s V C K s' τ' W' q ∧ zs_mv V u t pa k = none) (by omega) ?_ ?_ ⟨τ, W, zc_go.rfl', hP, rfl⟩
  · rintro rec k s' _ hk ⟨τ', W', c1, c2, c3⟩ hrec
    obtain ⟨li, lp, la, Ei, hs, hL⟩ := c2.it
    obtain ⟨ga', ka', fg', fk', o1', o2', o3'⟩ := c2.ol (c1.keep hO)
    refine zo_gR o1' rfl (zo_gR hs rfl (zc_rc2 hL (zc_128 hL (zqI_r.mpr ⟨fun h9 => absurd h9 (nI_ge hk (by omega)), fun _ => zo_rc o1' (zc_510 hV c2 (c1.keep hO) hu ht hk fun s2 τ2 W2 d1 d2 => zqI_r.mpr ?_)⟩))))
    have ew : nI (zs_why V u t k) = (0 : Int32) ↔ zs_may V u t k = true := by
      rw [← zs_why0 ht]
      refine nI_eq (b := 0) ?_ (by omega)
      unfold zs_why
      split <;> (try split) <;> (try split) <;> omega
    rw [ew]
    have g2 := c1.trans d1
    refine zJ_go (fun (j : zS → Prop) => ∀ s3 τ3 W3, zc_go s σ τ W s3 τ3 W3 → zc_P L G s V C K s3 τ3 W3 q → zs_mv V u t pa (k + 1) = none → j s3) ?_ ?_
    · intro s3 τ3 W3 e1 e2 e3 v hv
      subst hv
      exact hrec _ ⟨τ3, W3, e1, e2, e3⟩
    · intro j hj
      refine ⟨fun hno => hj s2 τ2 W2 g2 d2 ?_, fun hmay => ?_⟩
      · simp only [zs_mv, c3]
        rw [if_neg (fun h9 => hno h9.1)]
      · obtain ⟨ga2, ka2, fg2, fk2, o12, o22, o32⟩ := d2.ol (g2.keep hO)
        refine zo_rc o12 (zc_511 (zc_505 hV 22) hV d2 (g2.keep hO) hu ht hk (zs_may_bit hmay) (by omega) (by omega) fun s3 τ3 W3 e1 e2 => zqI_r.mpr ?_)
        have g3 := g2.trans e1
        obtain ⟨ga3, ka3, fg3, fk3, o13, o23, o33⟩ := e2.ol (g3.keep hO)
        refine zo_rc o13 (zc_505 hV 22 s3 τ3 W3 u t pa _ _ _ e2 (g3.keep hO) hu ht (by omega) (Or.inr (by omega)) (by omega) fun s4 τ4 W4 f1 f2 => zqI_r.mpr ?_)
        have b1 := zs_gn_b hV (t := t) hk
        have b2 := zs_O_b hV (u ||| 2 ^ k) (1 - t) 0
        have b3 := zs_O_b hV u t pa
        have efr : zs_fr V u t pa = zs_O V u t pa := by
          unfold zs_fr
          rw [if_neg (by omega)]
        rw [efr, iI_eq (by omega) (by omega) (by omega) (by omega)]
        refine ⟨fun hne => hj s4 τ4 W4 (g3.trans f1) f2 ?_, fun heq => ?_⟩
        · simp only [zs_mv, c3]
          rw [if_neg (fun h9 => hne h9.2)]
        · have hmv : zs_mv V u t pa (k + 1) = some k := by
            simp only [zs_mv, c3]
            rw [if_pos ⟨hmay, heq⟩]
          have := h s4 τ4 W4 (g3.trans f1) f2
          rw [hst (k + 1) k (zs_n V) (by omega) hmv] at this
          exact this
  · rintro rec s' ⟨τ', W', c1, c2, c3⟩
    obtain ⟨li, lp, la, Ei, hs, hL⟩ := c2.it
    obtain ⟨ga', ka', fg', fk', o1', o2', o3'⟩ := c2.ol (c1.keep hO)
    refine zo_gR o1' rfl (zo_gR hs rfl (zc_rc2 hL (zc_128 hL (zqI_r.mpr ⟨fun _ => ?_, fun h9 => absurd (nI_le (Nat.le_refl _) (by omega)) h9⟩))))
    have := h s' τ' W' c1 c2
    rw [c3] at this
    exact this
theorem zc_100 (hV : zs_ok V) (hC : 1 ≤ C) (hKK : 3 ≤ K) (hP : zc_P L G s V C K σ τ W q) (h : ∀ σ' τ' W', zc_go s σ τ W σ' τ' W' → zc_P L G s V C K σ' τ' W' q → Q (some (.int (if zs_ov V = true then -2 else zs_mo (zs_mvn V)))) σ') : zCall G (n + 77) 100 [.ref s] Q Y σ := by
  refine ze100 ⟨_, rfl, hP.rc (zc_101 hV hC hKK hP fun s1 τ1 W1 a1 a2 => zqI_r.mpr ?_)⟩
  rw [zs_b0]
  refine zJ_go (fun (j : Int32 → zS → Prop) => ∀ s2 τ2 W2, zc_go s σ τ W s2 τ2 W2 → zc_P L G s V C K s2 τ2 W2 q → j (if zs_ov V = true then -2 else zs_mo (zs_mvn V)) s2) (fun s2 τ2 W2 b1 b2 => h s2 τ2 W2 b1 b2) ?_
  intro j hj
  refine ⟨fun hno => a2.rc (zc_98 hV hC hKK a2 fun s2 τ2 W2 o b1 b2 b3 => zqR_r.mpr (b2.rc (zc_99 hV b2 (zqI_r.mpr ?_)))), fun hyes => ?_⟩
  · obtain ⟨li, lp, la, hs, _⟩ := b2.cell
    obtain ⟨ga, ka, fg, fk, o1, _⟩ := b2.ol b3
    refine zo_gI hs rfl (zo_gI hs rfl (zo_rc o1 ?_))
    rw [hV.tu.1, hV.pa.1]
    have hp1 : zs_pa V ≤ 1 := by
      have := hV.pa.2
      have : zs_pa V ≠ 2 := fun e => hno (by unfold zs_ov; simp [e])
      omega
    refine zc_512 hV b2 b3 hV.us.2.1 hV.tu.2 hp1 fun s3 τ3 W3 c1 c2 => zqI_r.mpr ?_
    have := hj s3 τ3 W3 ((a1.trans b1).trans c1) c2
    rw [if_neg hno] at this
    exact this
  · have := hj s1 τ1 W1 a1 a2
    rw [if_pos (Classical.not_not.mp hyes)] at this
    exact this
end ZD1
