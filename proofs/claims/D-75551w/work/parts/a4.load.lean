/-! THE REFERENCE: load, whole -/
theorem nI_ge0 {x : Int32} (h : 0 ≤ x) : ∃ k : Nat, x = nI k ∧ k < 2147483648 := by
  have h1 : (0 : Int) ≤ x.toInt := (fa_le 0 x).mp h
  have h2 := Int32.toInt_lt x
  refine ⟨x.toInt.toNat, ?_, by omega⟩
  rw [← iI_nat, Int.toNat_of_nonneg h1]
  exact (Int32.ofInt_toInt x).symm
section ZLE
variable {G : zPg} {n : Nat} {σ : zS} {m : Nat} {N : Nat → Option Nat} {M M' M'' M0 : zt_M} {Q : zQ} {Y : zY} {V D : zs_V} {b : Nat → Nat}
theorem zt_264 (hm : G.1 ≤ m) (hw : zt_wd G σ m N) {B : Nat} (hB : M.1 28 = nI B) (hB5 : B ≤ 500) (hb : ∀ i, i < B → M.2.2.1 18 i = nI (b i) ∧ b i < 256) {x : Int32}
    (hbad : ¬ (0 ≤ x ∧ x ≤ nI B) → ∀ M', zt_pe 1 M M' → Q (some (.int 0)) (zt_S σ m N M'))
    (hok : ∀ L, x = nI L → L ≤ B → (zp_txt b L (M.2.2.1 2)).1.2.1 = 0 → zs_ok (zp_txt b L (M.2.2.1 2)).2 → ∀ M', M'.1 5 = 0 → M'.1 4 = 0 → M'.1 6 = 0 → M'.1 26 = M.1 26 → M'.1 28 = 0 → M'.1 35 = -1 → (∀ j, j = 3 ∨ j = 4 ∨ j = 17 ∨ j = 18 → M'.2.2.1 j = M.2.2.1 j) → M'.2.2.1 1 = zt_cp (zp_txt b L (M.2.2.1 2)).2 (M.2.2.1 1) 0 0 61 → Q (some (.int ((zp_txt b L (M.2.2.1 2)).2 0))) (zt_S σ m N M'))
    (herr : ∀ L, x = nI L → L ≤ B → ¬ (zp_txt b L (M.2.2.1 2)).1.2.1 = 0 → ∀ M', M'.1 5 = 0 → (∀ k, k = 4 ∨ k = 6 ∨ k = 26 → M'.1 k = M.1 k) → M'.1 28 = 0 → M'.1 35 = nI (zp_txt b L (M.2.2.1 2)).1.2.2 → (∀ j, j = 1 ∨ j = 3 ∨ j = 4 ∨ j = 17 ∨ j = 18 → M'.2.2.1 j = M.2.2.1 j) → Q (some (.int (-10 - nI (zp_txt b L (M.2.2.1 2)).1.2.1))) (zt_S σ m N M')) : zCall G (n + 8) 264 [.ref m, .int x] Q Y (zt_S σ m N M) := by
  refine ze264 ⟨_, _, rfl, ?_⟩
  have e28 : va_up M.1 5 0 28 = nI B := (va_up_ne _ _ (by omega)).trans hB
  simp only [↓zt_p5 hm, ↓zt_g28, e28]
  refine zl_166.mpr (zqI_r.mpr ?_)
  simp only [zs_b0, Classical.not_not]
  refine ⟨fun hin => ?_, fun hno => ?_⟩
  · obtain ⟨L, rfl, hL3⟩ := nI_ge0 hin.1
    have hLB : L ≤ B := (nI_leI (by omega) (by omega)).mp hin.2
    have hLok := hok L rfl hLB
    have hLer := herr L rfl hLB
    simp only [↓zt_g1]
    refine zt_155 hm (zqV_r.mpr ?_)
    simp only [↓zt_rc]
    refine zt_265 hm (b := b) (L := L) (by omega) (fun i hi => ?_) fun M1 k1 k2 k3 k4 => zqV_r.mpr ?_
    · show va_up M.2.2.1 2 (zs_clr (M.2.2.1 2)) 18 i = _ ∧ _
      rw [va_up_ne _ _ (by omega)]
      exact hb i (by omega)
    · have k5 : zt_px b L (zp_S0 b L, zs_clr (M.2.2.1 2)) M1 := zt_px.mk k4 (by rw [k3]; exact va_up_self M.2.2.1 2 _)
      simp only [↓zt_rc]
      refine zt_270 hm hw k5 (zs_clr_ok _) fun M2 k6 k7 k8 => zqV_r.mpr ?_
      have k7 : zt_px b L (zp_txt b L (M.2.2.1 2)) M2 := k7
      have k8 : zs_ok (zp_txt b L (M.2.2.1 2)).2 := k8
      generalize zp_txt b L (M.2.2.1 2) = R at *
      simp only [↓zt_rc]
      refine zt_284 hm k7.1 fun M3 c1 c2 c3 c4 => zqI_r.mpr ?_
      have ee : nI R.1.2.1 = 0 ↔ R.1.2.1 = 0 := by
        have := k7.1.e0
        rw [k7.1.2.2.2.2.1] at this
        exact this
      have f1 : ∀ k, k < 28 → k ≠ 5 → M3.1 k = M.1 k := by
        intro k h1 h2
        rw [c1 k (by omega) (by omega), k6.1 k (by omega), k1 k (by omega)]
        show va_up M.1 5 0 k = _
        rw [va_up_ne _ _ h2]
      have f5 : M3.1 5 = 0 := by
        rw [c1 5 (by omega) (by omega), k6.1 5 (by omega), k1 5 (by omega)]
        exact va_up_self M.1 5 0
      have f2 : ∀ j, j ≠ 2 → M3.2.2.1 j = M.2.2.1 j := by
        intro j hj
        rw [c4, k6.2.2.1 j hj, k3]
        show va_up M.2.2.1 2 (zs_clr (M.2.2.1 2)) j = _
        rw [va_up_ne _ _ hj]
      have fD : M3.2.2.1 2 = R.2 := by rw [c4]; exact k7.2
      have f33 : M3.1 33 = nI R.1.2.1 := by
        rw [c1 33 (by omega) (by omega)]
        exact k7.1.2.2.2.2.1
      simp only [ee]
      refine ⟨fun hy => ?_, fun hn => ?_⟩
      · rw [if_pos hy] at c3
        simp only [↓zt_g1, ↓zt_g0]
        refine zt_238 (ja := 2) (jb := 1) (na := 61) (nb := 61) (fr := 0) (tr := 0) hm (by omega) (by omega) (by omega) (fun _ => rfl) (fun _ => rfl) (by omega) (by omega) (by omega) (by omega) (Or.inl (by omega)) (zqV_r.mpr ?_)
        simp only [↓zt_rc, ↓zt_g0, ↓zt_g1, ↓zt_g2, ↓zt_g3, ↓zt_g4, ↓zt_g5, ↓zt_g6, ↓zt_g7, ↓zt_g8, ↓zt_g9, ↓zt_g10, ↓zt_g11, ↓zt_g12, ↓zt_g13, ↓zt_g14, ↓zt_g15, ↓zt_g16, ↓zt_g17, ↓zt_g18, ↓zt_g19, ↓zt_g20, ↓zt_g21, ↓zt_g22, ↓zt_g23, ↓zt_g24, ↓zt_g25, ↓zt_g26, ↓zt_g27, ↓zt_g28, ↓zt_g29, ↓zt_g30, ↓zt_g31, ↓zt_g32, ↓zt_g33, ↓zt_g34, ↓zt_g35, ↓zt_g36, ↓zt_g37, ↓zt_g38, ↓zt_g39, ↓zt_g40, ↓zt_p4 hm, ↓zt_p5 hm, ↓zt_p6 hm, ↓zt_p15 hm, ↓zt_p21 hm, ↓zt_p22 hm, ↓zt_p23 hm, ↓zt_p26 hm, ↓zt_p28 hm, ↓zt_p29 hm, ↓zt_p30 hm, ↓zt_p31 hm, ↓zt_p32 hm, ↓zt_p33 hm, ↓zt_p34 hm, ↓zt_p35 hm, ↓zt_p36 hm, ↓zt_p40 hm, ↓zt_p19 hm, ↓zt_p20 hm, ↓zt_a1, ↓zt_a2, ↓zt_a3, ↓zt_a4, ↓zt_a5, ↓zt_a6, ↓zt_a7, ↓zt_a8, ↓zt_a9, ↓zt_a10, ↓zt_a11, ↓zt_a12, ↓zt_a13, ↓zt_a14, ↓zt_a15, ↓zt_a16, ↓zt_a17, ↓zt_a18, ↓zt_a19, ↓zt_a20, ↓zt_a21, ↓zt_s1 hm, ↓zt_s2 hm, ↓zt_s3 hm, ↓zt_s4 hm, ↓zt_s5 hm, ↓zt_s6 hm, ↓zt_s7 hm, ↓zt_s8 hm, ↓zt_s9 hm, ↓zt_s10 hm, ↓zt_s11 hm, ↓zt_s12 hm, ↓zt_s16 hm, ↓zt_s17 hm, ↓zt_s18 hm, ↓zt_s20 hm, ↓zt_s13 hm, ↓zt_s14 hm, ↓zt_s15 hm, ↓zt_s21 hm, ↓zt_l19, ↓zt_l17, forall_eq, ↓zqI_r, ↓zqL_r, ↓zqD_r, ↓zqF_r, ↓zqV_r, ↓zqR_r, ↓zqR_s, zboolb, zbool0, zbool1, true_and, and_true, ↓zl_159]
        have e10 : va_up M3.2.2.1 1 (zt_cp (M3.2.2.1 2) (M3.2.2.1 1) 0 0 61) 1 0 = R.2 0 := by
          rw [va_up_self, fD]
          rfl
        have := hLok hy k8 (((M3.sA 1 (zt_cp (M3.2.2.1 2) (M3.2.2.1 1) 0 0 61)).sI 4 0).sI 6 0) ?_ ?_ ?_ ?_ ?_ ?_ ?_ ?_
        · rw [← e10] at this
          exact this
        · show va_up (va_up M3.1 4 0) 6 0 5 = _
          rw [va_up_ne _ _ (by omega), va_up_ne _ _ (by omega)]
          exact f5
        · show va_up (va_up M3.1 4 0) 6 0 4 = _
          rw [va_up_ne _ _ (by omega), va_up_self]
        · show va_up (va_up M3.1 4 0) 6 0 6 = _
          rw [va_up_self]
        · show va_up (va_up M3.1 4 0) 6 0 26 = _
          rw [va_up_ne _ _ (by omega), va_up_ne _ _ (by omega)]
          exact f1 26 (by omega) (by omega)
        · show va_up (va_up M3.1 4 0) 6 0 28 = _
          rw [va_up_ne _ _ (by omega), va_up_ne _ _ (by omega)]
          exact c2
        · show va_up (va_up M3.1 4 0) 6 0 35 = _
          rw [va_up_ne _ _ (by omega), va_up_ne _ _ (by omega)]
          exact c3
        · intro j hj
          show va_up M3.2.2.1 1 (zt_cp (M3.2.2.1 2) (M3.2.2.1 1) 0 0 61) j = _
          rw [va_up_ne _ _ (by omega)]
          exact f2 j (by omega)
        · show va_up M3.2.2.1 1 (zt_cp (M3.2.2.1 2) (M3.2.2.1 1) 0 0 61) 1 = _
          rw [va_up_self, fD, f2 1 (by omega)]
      · rw [if_neg hn] at c3
        simp only [↓zt_g33, f33]
        exact hLer hn M3 f5 (fun k hk => f1 k (by omega) (by omega)) c2 c3 (fun j hj => f2 j (by omega))
  · simp only [↓zt_rc, ↓zl_163 hm]
    exact zqI_r.mpr (hbad hno _ zt_pe.thr.re)
end ZLE
