/-! READING TEXTS: a whole text -/
theorem zp_list_ok {b : Nat → Nat} {L : Nat} {g : Bool} {X : zp_X} (h : zs_ok X.2) : zs_ok (zp_list b L g X).2 := by
  unfold zp_list
  by_cases he : (zp_l3 b L g X).2.1 = 0
  · rw [if_pos he]
    have hal := h.all
    have hset : (zp_l2 b L g X).2 < zs_all X.2 := zp_ml_lt h 501 _ 0 (by omega)
    obtain ⟨hl, hl5⟩ := h.lc g
    have hlt : zs_lc X.2 g < 5 := by
      refine Classical.byContradiction fun hge => ?_
      have hbad : ¬ (zp_l1 b L g X).2.1 = 0 := by
        intro h9
        unfold zp_l1 at h9
        rw [zp_adv_e] at h9
        exact hge (zp_chk_e (by omega) h9).1
      have e2 : zp_l2 b L g X = (zp_l1 b L g X, 0) := zp_ml_stop (fun h9 => hbad h9.1) 501
      unfold zp_l3 zp_xs at he
      rw [zp_adv_e] at he
      have e4 := (zp_chk_e (by omega) he).2.1
      rw [e2] at e4
      exact hbad e4
    generalize (zp_l2 b L g X).2 = t at *
    generalize hW : va_up (va_up X.2 (zs_cb g + zs_lc X.2 g) (nI t)) (zs_ci g) (nI (zs_lc X.2 g + 1)) = W
    show zs_ok W
    have hcl := zs_ci_lt g
    have hs : ∀ i, i ≠ zs_ci g → i ≠ zs_cb g + zs_lc X.2 g → W i = X.2 i := by
      intro i h1 h2
      rw [← hW, va_up_ne _ _ h1, va_up_ne _ _ h2]
    have hs1 : ∀ i, i < 4 ∨ (6 ≤ i ∧ i < 51) → W i = X.2 i := fun i hi => hs i (by omega) (by omega)
    have en : zs_n W = zs_n X.2 := by
      unfold zs_n
      rw [hs1 0 (by omega)]
    have eA : zs_all W = zs_all X.2 := by
      unfold zs_all
      rw [en]
    obtain ⟨a1, a2, a3, a4, a5, a6, a7, a8, a9, a10⟩ := h
    refine ⟨?_, ?_, ?_, ?_, ?_, ?_, ?_, ?_, ?_, ?_⟩
    · rw [hs1 0 (by omega)]; exact a1
    · rw [hs1 1 (by omega)]; exact a2
    · rw [hs1 2 (by omega)]; exact a3
    · rw [hs1 3 (by omega)]; exact a4
    · have hn10 : zs_n X.2 ≤ 10 := by
        obtain ⟨c, c1, c2⟩ := a1
        unfold zs_n
        rw [c2, nI_cl (by omega)]
        exact c1
      have hp : ∀ k f, k < zs_n X.2 → f ≤ 3 → zs_p W k f = zs_p X.2 k f := by
        intro k f h1 h2
        unfold zs_p
        rw [hs1 _ (by omega)]
      intro k hk
      rw [en] at hk
      rw [hp k 0 hk (by omega)]
      refine ⟨(a5 k hk).1, (a5 k hk).2.1, fun f hf1 hf2 => ?_⟩
      rw [hp k f hk hf2]
      exact (a5 k hk).2.2 f hf1 hf2
    · intro g'
      rw [eA]
      by_cases eg : g' = g
      · subst eg
        have e1 : W (zs_ci g') = nI (zs_lc X.2 g' + 1) := by rw [← hW, va_up_self]
        have e2 : zs_lc W g' = zs_lc X.2 g' + 1 := by
          show (W (zs_ci g')).toNatClampNeg = _
          rw [e1, nI_cl (by omega)]
        refine ⟨⟨_, by omega, e1⟩, fun i hi => ?_⟩
        rw [e2] at hi
        by_cases ei : i = zs_lc X.2 g'
        · subst ei
          refine ⟨t, hset, ?_⟩
          show W (zs_cb g' + zs_lc X.2 g') = _
          rw [← hW, va_up_ne _ _ (by omega), va_up_self]
        · obtain ⟨s, s1, s2⟩ := (a6 g').2 i (by omega)
          refine ⟨s, s1, ?_⟩
          rw [← s2]
          show W (zs_cb g' + i) = X.2 (zs_cb g' + i)
          exact hs _ (by omega) (by omega)
      · have e1 : ∀ i, i < 5 → W (zs_cb g' + i) = X.2 (zs_cb g' + i) ∧ W (zs_ci g') = X.2 (zs_ci g') := by
          intro i hi
          have : (zs_cb g' = 51 ∧ zs_ci g' = 4 ∧ zs_cb g = 56 ∧ zs_ci g = 5) ∨ (zs_cb g' = 56 ∧ zs_ci g' = 5 ∧ zs_cb g = 51 ∧ zs_ci g = 4) := by
            cases g' <;> cases g
            · exact absurd rfl eg
            · exact Or.inr ⟨rfl, rfl, rfl, rfl⟩
            · exact Or.inl ⟨rfl, rfl, rfl, rfl⟩
            · exact absurd rfl eg
          exact ⟨hs _ (by omega) (by omega), hs _ (by omega) (by omega)⟩
        have e0 : W (if g' then 4 else 5) = X.2 (if g' then 4 else 5) := (e1 0 (by omega)).2
        have e2 : zs_lc W g' = zs_lc X.2 g' := by
          unfold zs_lc
          rw [e0]
        rw [e0, e2]
        refine ⟨(a6 g').1, fun i hi => ?_⟩
        have h5 : zs_lc X.2 g' ≤ 5 := by
          obtain ⟨c, hc1, hc2⟩ := (a6 g').1
          unfold zs_lc
          rw [hc2, nI_cl (by omega)]
          exact hc1
        obtain ⟨s, s1, s2⟩ := (a6 g').2 i hi
        exact ⟨s, s1, (e1 i (by omega)).1.trans s2⟩
    · rw [eA, hs1 6 (by omega)]; exact a7
    · rw [eA, hs1 7 (by omega)]; exact a8
    · rw [hs1 8 (by omega)]; exact a9
    · rw [hs1 9 (by omega)]; exact a10
  · rw [if_neg he]
    exact h
theorem zp_first {b : Nat → Nat} {L : Nat} {S : zp_P} {ok : Prop} [Decidable ok] {c : Nat} (hc : c ≠ 0) (ho : zp_ok b L S.1) (ht : S.1.1 ≠ 0) (he : S.2.1 = 0) : ¬ (zp_adv b L (zp_chk S ok c)).2.1 = 0 ∨ S.1.2.1 < (zp_adv b L (zp_chk S ok c)).1.2.1 := by
  by_cases h : (zp_adv b L (zp_chk S ok c)).2.1 = 0
  · right
    rw [zp_adv_e] at h
    rw [(zp_chk_e hc h).2.2]
    exact zp_adv_lt ho ht he
  · exact Or.inl h
theorem zp_item_go {b : Nat → Nat} {L : Nat} (hL : L ≤ 500) {X : zp_X} (ho : zp_ok b L X.1.1) (ht : X.1.1.1 ≠ 0) (he : X.1.2.1 = 0) (h : (zp_item b L X).1.2.1 = 0) : X.1.1.2.1 < (zp_item b L X).1.1.2.1 := by
  unfold zp_item at *
  by_cases h1 : (zp_i1 b L X).2.1 = 0
  · rw [if_pos h1]
    have h2 := (zp_first (ok := zs_n X.2 < 10) (c := 3) (by omega) ho ht he).resolve_left (fun h9 => h9 h1)
    have h3 : zp_ok b L (zp_i1 b L X).1 := ((zp_go.chk.trans (zp_go.adv hL)) ho).1
    have h6 : zp_go b L (zp_i1 b L X) (zp_i2 b L X).1 := zp_go.fd hL (zp_i1 b L X, X.2) 3
    have h4 : zp_go b L (zp_i1 b L X) (zp_xs b L (zp_i2 b L X).1 59) := h6.trans (zp_go.xs hL)
    have h5 : X.1.1.2.1 < (zp_xs b L (zp_i2 b L X).1 59).1.2.1 := Nat.lt_of_lt_of_le h2 (h4 h3).2
    dsimp only
    exact h5
  · rw [if_neg h1] at h
    exact absurd h h1
theorem zp_list_go {b : Nat → Nat} {L : Nat} (hL : L ≤ 500) {g : Bool} {X : zp_X} (ho : zp_ok b L X.1.1) (ht : X.1.1.1 ≠ 0) (he : X.1.2.1 = 0) (h : (zp_list b L g X).1.2.1 = 0) : X.1.1.2.1 < (zp_list b L g X).1.1.2.1 := by
  have h : (zp_l3 b L g X).2.1 = 0 := h
  show X.1.1.2.1 < (zp_l3 b L g X).1.2.1
  have h1 : (zp_l1 b L g X).2.1 = 0 := by
    refine Classical.byContradiction fun hbad => ?_
    have e2 : zp_l2 b L g X = (zp_l1 b L g X, 0) := zp_ml_stop (fun h9 => hbad h9.1) 501
    unfold zp_l3 zp_xs at h
    rw [zp_adv_e] at h
    have e4 := (zp_chk_e (by omega) h).2.1
    rw [e2] at e4
    exact hbad e4
  have h2 := (zp_first (ok := zs_lc X.2 g < 5) (c := 3) (by omega) ho ht he).resolve_left (fun h9 => h9 h1)
  have h3 : zp_ok b L (zp_l1 b L g X).1 := ((zp_go.chk.trans (zp_go.adv hL)) ho).1
  have h4 : zp_go b L (zp_l1 b L g X) (zp_l3 b L g X) := (zp_go.ml hL 501 (zp_l1 b L g X) 0).trans (zp_go.xs hL)
  exact Nat.lt_of_lt_of_le h2 (h4 h3).2
