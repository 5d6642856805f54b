/-! THE REFERENCE: the kernel that is taken -/
def zs_kin (V : zs_V) (s : zs_K) : Prop := s.1 < 2 ^ zs_lc V true ∧ s.2.1 < 2 ^ zs_lc V false ∧ (s.2.2 ≠ 0 → zs_gd V s.1 s.2.1 ∧ zs_bc s.1 5 = zs_bc s.2.1 5 ∧ 1 ≤ zs_bc s.1 5)
theorem zs_kst_in {V : zs_V} {k p q : Nat} {s : zs_K} (hk : 1 ≤ k) (hp : p < 2 ^ zs_lc V true) (hq : q < 2 ^ zs_lc V false) (h : zs_kin V s) : zs_kin V (zs_kst V k p q s) := by
  unfold zs_kst
  by_cases hc : zs_bc p 5 = k ∧ zs_bc q 5 = k ∧ zs_gdb V p q = true
  · rw [if_pos hc]
    by_cases h0 : s.2.2 = 0
    · simp only [if_pos h0]
      exact ⟨hp, hq, fun _ => ⟨zs_gdb_iff.mp hc.2.2, hc.1.trans hc.2.1.symm, by show 1 ≤ zs_bc p 5; omega⟩⟩
    · simp only [if_neg h0]
      exact ⟨h.1, h.2.1, fun _ => h.2.2 h0⟩
  · rw [if_neg hc]
    exact h
theorem zs_kq_in {V : zs_V} {k p : Nat} (hk : 1 ≤ k) (hp : p < 2 ^ zs_lc V true) : ∀ q s, q ≤ 2 ^ zs_lc V false → zs_kin V s → zs_kin V (zs_kq V k p q s)
  | 0, s, _, h => h
  | q + 1, s, hq, h => by
    simp only [zs_kq]
    by_cases h0 : q = 0
    · rw [if_pos h0]; exact h
    · rw [if_neg h0]; exact zs_kst_in hk hp (by omega) (zs_kq_in hk hp q s (by omega) h)
theorem zs_kp_in {V : zs_V} {k : Nat} (hk : 1 ≤ k) : ∀ p s, p ≤ 2 ^ zs_lc V true → zs_kin V s → zs_kin V (zs_kp V k p s)
  | 0, s, _, h => h
  | p + 1, s, hp, h => by
    simp only [zs_kp]
    by_cases h0 : p = 0
    · rw [if_pos h0]; exact h
    · rw [if_neg h0]; exact zs_kq_in hk (by omega) _ _ (Nat.le_refl _) (zs_kp_in hk p s (by omega) h)
theorem zs_kk_in {V : zs_V} : ∀ k, zs_kin V (zs_kk V k)
  | 0 => ⟨Nat.two_pow_pos _, Nat.two_pow_pos _, fun h => absurd rfl h⟩
  | k + 1 => by
    simp only [zs_kk]
    by_cases h0 : k = 0
    · rw [if_pos h0]; exact ⟨Nat.two_pow_pos _, Nat.two_pow_pos _, fun h => absurd rfl h⟩
    · rw [if_neg h0]; exact zs_kp_in (by omega) _ _ (Nat.le_refl _) (zs_kk_in k)
section ZTH
variable {G : zPg} {n : Nat} {σ : zS} {m : Nat} {N : Nat → Option Nat} {M M0 : zt_M} {Q : zQ} {Y : zY} {V : zs_V}
def zt_kr (s : zs_K) (M : zt_M) : Prop := M.1 21 = nI s.1 ∧ M.1 22 = nI s.2.1 ∧ M.1 23 = nI s.2.2
theorem zt_198 (hm : G.1 ≤ m) (hM : M.2.2.1 1 = V) (hV : zs_ok V) (h : ∀ M', zt_kx M M' → zt_tbl V M' → zt_kr (zs_kf6 V) M' → Q none (zt_S σ m N M')) : zCall G (n + 9) 198 [.ref m] Q Y (zt_S σ m N M) := by
  have p1 := zs_p32 hV true
  have p2 := zs_p32 hV false
  have l1 := hV.lc true
  have l2 := hV.lc false
  have w1 : 0 < 2 ^ zs_lc V true := Nat.two_pow_pos _
  have w2 : 0 < 2 ^ zs_lc V false := Nat.two_pow_pos _
  have s1 : ((1 : Int32) <<< (nI (zs_lc V true) &&& 31)) = nI (2 ^ zs_lc V true) := zn_shl _ (by omega)
  have s2 : ((1 : Int32) <<< (nI (zs_lc V false) &&& 31)) = nI (2 ^ zs_lc V false) := zn_shl _ (by omega)
  have hkle := zs_kk_le V p2 p1
  refine ze198 ⟨_, rfl, ?_⟩
  simp only [↓zt_rc, ↓zt_g0, ↓zt_g1, ↓zt_g2, ↓zt_g3, ↓zt_g4, ↓zt_g5, ↓zt_g6, ↓zt_g7, ↓zt_g8, ↓zt_g9, ↓zt_g10, ↓zt_g11, ↓zt_g12, ↓zt_g13, ↓zt_g14, ↓zt_g15, ↓zt_g16, ↓zt_g17, ↓zt_g18, ↓zt_g19, ↓zt_g20, ↓zt_g21, ↓zt_g22, ↓zt_g23, ↓zt_g24, ↓zt_g25, ↓zt_g26, ↓zt_g27, ↓zt_g28, ↓zt_g29, ↓zt_g30, ↓zt_g31, ↓zt_g32, ↓zt_g33, ↓zt_g34, ↓zt_g35, ↓zt_g36, ↓zt_g37, ↓zt_g38, ↓zt_g39, ↓zt_g40, ↓zt_p4 hm, ↓zt_p5 hm, ↓zt_p6 hm, ↓zt_p15 hm, ↓zt_p21 hm, ↓zt_p22 hm, ↓zt_p23 hm, ↓zt_p26 hm, ↓zt_p28 hm, ↓zt_p29 hm, ↓zt_p30 hm, ↓zt_p31 hm, ↓zt_p32 hm, ↓zt_p33 hm, ↓zt_p34 hm, ↓zt_p35 hm, ↓zt_p36 hm, ↓zt_p40 hm, ↓zt_p19 hm, ↓zt_p20 hm, ↓zt_a1, ↓zt_a2, ↓zt_a3, ↓zt_a4, ↓zt_a5, ↓zt_a6, ↓zt_a7, ↓zt_a8, ↓zt_a9, ↓zt_a10, ↓zt_a11, ↓zt_a12, ↓zt_a13, ↓zt_a14, ↓zt_a15, ↓zt_a16, ↓zt_a17, ↓zt_a18, ↓zt_a19, ↓zt_a20, ↓zt_a21, ↓zt_s1 hm, ↓zt_s2 hm, ↓zt_s3 hm, ↓zt_s4 hm, ↓zt_s5 hm, ↓zt_s6 hm, ↓zt_s7 hm, ↓zt_s8 hm, ↓zt_s9 hm, ↓zt_s10 hm, ↓zt_s11 hm, ↓zt_s12 hm, ↓zt_s16 hm, ↓zt_s17 hm, ↓zt_s18 hm, ↓zt_s20 hm, ↓zt_s13 hm, ↓zt_s14 hm, ↓zt_s15 hm, ↓zt_s21 hm, ↓zt_l19, ↓zt_l17, forall_eq, ↓zqI_r, ↓zqL_r, ↓zqD_r, ↓zqF_r, ↓zqV_r, ↓zqR_r, ↓zqR_s, zboolb, zbool0, zbool1, true_and, and_true]
  refine zt_199 hm hM hV (fun f ht => ?_)
  simp only [↓zt_rc, ↓zt_g0, ↓zt_g1, ↓zt_g2, ↓zt_g3, ↓zt_g4, ↓zt_g5, ↓zt_g6, ↓zt_g7, ↓zt_g8, ↓zt_g9, ↓zt_g10, ↓zt_g11, ↓zt_g12, ↓zt_g13, ↓zt_g14, ↓zt_g15, ↓zt_g16, ↓zt_g17, ↓zt_g18, ↓zt_g19, ↓zt_g20, ↓zt_g21, ↓zt_g22, ↓zt_g23, ↓zt_g24, ↓zt_g25, ↓zt_g26, ↓zt_g27, ↓zt_g28, ↓zt_g29, ↓zt_g30, ↓zt_g31, ↓zt_g32, ↓zt_g33, ↓zt_g34, ↓zt_g35, ↓zt_g36, ↓zt_g37, ↓zt_g38, ↓zt_g39, ↓zt_g40, ↓zt_p4 hm, ↓zt_p5 hm, ↓zt_p6 hm, ↓zt_p15 hm, ↓zt_p21 hm, ↓zt_p22 hm, ↓zt_p23 hm, ↓zt_p26 hm, ↓zt_p28 hm, ↓zt_p29 hm, ↓zt_p30 hm, ↓zt_p31 hm, ↓zt_p32 hm, ↓zt_p33 hm, ↓zt_p34 hm, ↓zt_p35 hm, ↓zt_p36 hm, ↓zt_p40 hm, ↓zt_p19 hm, ↓zt_p20 hm, ↓zt_a1, ↓zt_a2, ↓zt_a3, ↓zt_a4, ↓zt_a5, ↓zt_a6, ↓zt_a7, ↓zt_a8, ↓zt_a9, ↓zt_a10, ↓zt_a11, ↓zt_a12, ↓zt_a13, ↓zt_a14, ↓zt_a15, ↓zt_a16, ↓zt_a17, ↓zt_a18, ↓zt_a19, ↓zt_a20, ↓zt_a21, ↓zt_s1 hm, ↓zt_s2 hm, ↓zt_s3 hm, ↓zt_s4 hm, ↓zt_s5 hm, ↓zt_s6 hm, ↓zt_s7 hm, ↓zt_s8 hm, ↓zt_s9 hm, ↓zt_s10 hm, ↓zt_s11 hm, ↓zt_s12 hm, ↓zt_s16 hm, ↓zt_s17 hm, ↓zt_s18 hm, ↓zt_s20 hm, ↓zt_s13 hm, ↓zt_s14 hm, ↓zt_s15 hm, ↓zt_s21 hm, ↓zt_l19, ↓zt_l17, forall_eq, ↓zqI_r, ↓zqL_r, ↓zqD_r, ↓zqF_r, ↓zqV_r, ↓zqR_r, ↓zqR_s, zboolb, zbool0, zbool1, true_and, and_true]
  refine zf2 1 6 (fun k s' => ∃ M', s' = zt_S σ m N M' ∧ zt_kx M M' ∧ zt_tbl V M' ∧ zt_kr (zs_kk V k) M') (by omega) ?_ ?_ ⟨_, rfl, (((zt_kx.a (by omega)).trans (zt_kx.i (by omega))).trans (zt_kx.i (by omega))).trans (zt_kx.i (by omega)), ht, ⟨rfl, rfl, rfl⟩⟩
  · rintro rec k s' hk1 hk ⟨M1, rfl, kx1, t1, r1⟩ hrec
    refine ⟨fun h9 => absurd h9 (nI_nlt (a := 5) (by omega) (by omega)), fun _ => ?_⟩
    have hkk := hkle k
    refine zf2 1 (2 ^ zs_lc V true) (fun p s' => ∃ M', s' = zt_S σ m N M' ∧ zt_kx M M' ∧ zt_tbl V M' ∧ zt_kr (zs_kp V k p (zs_kk V k)) M') (by omega) ?_ ?_ ⟨M1, rfl, kx1, t1, r1⟩
    · rintro rec2 p s' hp1 hp ⟨M2, rfl, kx2, t2, r2⟩ hrec2
      have e2 : M2.2.2.1 1 = V := (kx2.2 1 (by omega) (by omega) (by omega)).trans hM
      have hpp := zs_kp_le V p2 k p (zs_kk V k)
      simp only [↓zt_rc, ↓zt_g0, ↓zt_g1, ↓zt_g2, ↓zt_g3, ↓zt_g4, ↓zt_g5, ↓zt_g6, ↓zt_g7, ↓zt_g8, ↓zt_g9, ↓zt_g10, ↓zt_g11, ↓zt_g12, ↓zt_g13, ↓zt_g14, ↓zt_g15, ↓zt_g16, ↓zt_g17, ↓zt_g18, ↓zt_g19, ↓zt_g20, ↓zt_g21, ↓zt_g22, ↓zt_g23, ↓zt_g24, ↓zt_g25, ↓zt_g26, ↓zt_g27, ↓zt_g28, ↓zt_g29, ↓zt_g30, ↓zt_g31, ↓zt_g32, ↓zt_g33, ↓zt_g34, ↓zt_g35, ↓zt_g36, ↓zt_g37, ↓zt_g38, ↓zt_g39, ↓zt_g40, ↓zt_p4 hm, ↓zt_p5 hm, ↓zt_p6 hm, ↓zt_p15 hm, ↓zt_p21 hm, ↓zt_p22 hm, ↓zt_p23 hm, ↓zt_p26 hm, ↓zt_p28 hm, ↓zt_p29 hm, ↓zt_p30 hm, ↓zt_p31 hm, ↓zt_p32 hm, ↓zt_p33 hm, ↓zt_p34 hm, ↓zt_p35 hm, ↓zt_p36 hm, ↓zt_p40 hm, ↓zt_p19 hm, ↓zt_p20 hm, ↓zt_a1, ↓zt_a2, ↓zt_a3, ↓zt_a4, ↓zt_a5, ↓zt_a6, ↓zt_a7, ↓zt_a8, ↓zt_a9, ↓zt_a10, ↓zt_a11, ↓zt_a12, ↓zt_a13, ↓zt_a14, ↓zt_a15, ↓zt_a16, ↓zt_a17, ↓zt_a18, ↓zt_a19, ↓zt_a20, ↓zt_a21, ↓zt_s1 hm, ↓zt_s2 hm, ↓zt_s3 hm, ↓zt_s4 hm, ↓zt_s5 hm, ↓zt_s6 hm, ↓zt_s7 hm, ↓zt_s8 hm, ↓zt_s9 hm, ↓zt_s10 hm, ↓zt_s11 hm, ↓zt_s12 hm, ↓zt_s16 hm, ↓zt_s17 hm, ↓zt_s18 hm, ↓zt_s20 hm, ↓zt_s13 hm, ↓zt_s14 hm, ↓zt_s15 hm, ↓zt_s21 hm, ↓zt_l19, ↓zt_l17, forall_eq, ↓zqI_r, ↓zqL_r, ↓zqD_r, ↓zqF_r, ↓zqV_r, ↓zqR_r, ↓zqR_s, zboolb, zbool0, zbool1, true_and, and_true, ↓zl_cnt1 e2 hV, s1]
      refine ⟨fun h9 => absurd h9 (nI_ge hp (by omega)), fun _ => ?_⟩
      refine zf2 1 (2 ^ zs_lc V false) (fun q s' => ∃ M', s' = zt_S σ m N M' ∧ zt_kx M M' ∧ zt_tbl V M' ∧ zt_kr (zs_kq V k p q (zs_kp V k p (zs_kk V k))) M') (by omega) ?_ ?_ ⟨M2, rfl, kx2, t2, r2⟩
      · rintro rec3 q s' hq1 hq ⟨M3, rfl, kx3, t3, r3⟩ hrec3
        have e3 : M3.2.2.1 1 = V := (kx3.2 1 (by omega) (by omega) (by omega)).trans hM
        have hqq := zs_kq_le V k p q (zs_kp V k p (zs_kk V k))
        have bp : zs_bc p 5 ≤ 5 := fb_ct_le _ _
        have bq : zs_bc q 5 ≤ 5 := fb_ct_le _ _
        have ep : nI (zs_bc p 5) = nI k ↔ zs_bc p 5 = k := nI_eq (by omega) (by omega)
        have eq : nI (zs_bc q 5) = nI k ↔ zs_bc q 5 = k := nI_eq (by omega) (by omega)
        have hstep : zs_kq V k p (q + 1) (zs_kp V k p (zs_kk V k)) = zs_kst V k p q (zs_kq V k p q (zs_kp V k p (zs_kk V k))) := by
          simp only [zs_kq]
          rw [if_neg (by omega)]
        generalize hS : zs_kq V k p q (zs_kp V k p (zs_kk V k)) = S at *
        have skip : ∀ M', zt_kx M M' → zt_tbl V M' → zt_kr S M' → ¬ (zs_bc p 5 = k ∧ zs_bc q 5 = k ∧ zs_gdb V p q = true) → rec3 (nI q + 1) (zt_S σ m N M') := by
          intro M' a1 a2 a3 a4
          refine hrec3 _ ⟨M', rfl, a1, a2, ?_⟩
          rw [hstep]
          unfold zs_kst
          rw [if_neg a4]
          exact a3
        simp only [↓zt_rc, ↓zt_g0, ↓zt_g1, ↓zt_g2, ↓zt_g3, ↓zt_g4, ↓zt_g5, ↓zt_g6, ↓zt_g7, ↓zt_g8, ↓zt_g9, ↓zt_g10, ↓zt_g11, ↓zt_g12, ↓zt_g13, ↓zt_g14, ↓zt_g15, ↓zt_g16, ↓zt_g17, ↓zt_g18, ↓zt_g19, ↓zt_g20, ↓zt_g21, ↓zt_g22, ↓zt_g23, ↓zt_g24, ↓zt_g25, ↓zt_g26, ↓zt_g27, ↓zt_g28, ↓zt_g29, ↓zt_g30, ↓zt_g31, ↓zt_g32, ↓zt_g33, ↓zt_g34, ↓zt_g35, ↓zt_g36, ↓zt_g37, ↓zt_g38, ↓zt_g39, ↓zt_g40, ↓zt_p4 hm, ↓zt_p5 hm, ↓zt_p6 hm, ↓zt_p15 hm, ↓zt_p21 hm, ↓zt_p22 hm, ↓zt_p23 hm, ↓zt_p26 hm, ↓zt_p28 hm, ↓zt_p29 hm, ↓zt_p30 hm, ↓zt_p31 hm, ↓zt_p32 hm, ↓zt_p33 hm, ↓zt_p34 hm, ↓zt_p35 hm, ↓zt_p36 hm, ↓zt_p40 hm, ↓zt_p19 hm, ↓zt_p20 hm, ↓zt_a1, ↓zt_a2, ↓zt_a3, ↓zt_a4, ↓zt_a5, ↓zt_a6, ↓zt_a7, ↓zt_a8, ↓zt_a9, ↓zt_a10, ↓zt_a11, ↓zt_a12, ↓zt_a13, ↓zt_a14, ↓zt_a15, ↓zt_a16, ↓zt_a17, ↓zt_a18, ↓zt_a19, ↓zt_a20, ↓zt_a21, ↓zt_s1 hm, ↓zt_s2 hm, ↓zt_s3 hm, ↓zt_s4 hm, ↓zt_s5 hm, ↓zt_s6 hm, ↓zt_s7 hm, ↓zt_s8 hm, ↓zt_s9 hm, ↓zt_s10 hm, ↓zt_s11 hm, ↓zt_s12 hm, ↓zt_s16 hm, ↓zt_s17 hm, ↓zt_s18 hm, ↓zt_s20 hm, ↓zt_s13 hm, ↓zt_s14 hm, ↓zt_s15 hm, ↓zt_s21 hm, ↓zt_l19, ↓zt_l17, forall_eq, ↓zqI_r, ↓zqL_r, ↓zqD_r, ↓zqF_r, ↓zqV_r, ↓zqR_r, ↓zqR_s, zboolb, zbool0, zbool1, true_and, and_true, zJ, ↓zl_cnt0 e3 hV, s2, ↓zl_433, zs_pc32 p (by omega), zs_pc32 q (by omega), ep, eq]
        refine ⟨fun h9 => absurd h9 (nI_ge hq (by omega)), fun _ => ⟨fun h1 => skip M3 kx3 t3 r3 (fun h9 => h1 h9.1), fun h1 => ⟨fun h2 => skip M3 kx3 t3 r3 (fun h9 => h2 h9.2.1), fun h2 => ?_⟩⟩⟩
        refine zt_200 hm e3 hV t3 hp hq (h1.trans h2.symm) (by omega) (fun hg M4 k4 t4 i4 _ => ?_) (fun hg M4 k4 t4 i4 => ?_)
        · have r4 : zt_kr S M4 := ⟨(i4 21 (by omega)).trans r3.1, (i4 22 (by omega)).trans r3.2.1, (i4 23 (by omega)).trans r3.2.2⟩
          have hgo : zs_kst V k p q S = (if S.2.2 = 0 then p else S.1, if S.2.2 = 0 then q else S.2.1, S.2.2 + 1) := by
            unfold zs_kst
            rw [if_pos ⟨h1, h2, zs_gdb_iff.mpr hg⟩]
          have e0 : nI S.2.2 = (0 : Int32) ↔ S.2.2 = 0 := nI_eq (b := 0) (by omega) (by omega)
          simp only [↓zt_rc, ↓zt_g0, ↓zt_g1, ↓zt_g2, ↓zt_g3, ↓zt_g4, ↓zt_g5, ↓zt_g6, ↓zt_g7, ↓zt_g8, ↓zt_g9, ↓zt_g10, ↓zt_g11, ↓zt_g12, ↓zt_g13, ↓zt_g14, ↓zt_g15, ↓zt_g16, ↓zt_g17, ↓zt_g18, ↓zt_g19, ↓zt_g20, ↓zt_g21, ↓zt_g22, ↓zt_g23, ↓zt_g24, ↓zt_g25, ↓zt_g26, ↓zt_g27, ↓zt_g28, ↓zt_g29, ↓zt_g30, ↓zt_g31, ↓zt_g32, ↓zt_g33, ↓zt_g34, ↓zt_g35, ↓zt_g36, ↓zt_g37, ↓zt_g38, ↓zt_g39, ↓zt_g40, ↓zt_p4 hm, ↓zt_p5 hm, ↓zt_p6 hm, ↓zt_p15 hm, ↓zt_p21 hm, ↓zt_p22 hm, ↓zt_p23 hm, ↓zt_p26 hm, ↓zt_p28 hm, ↓zt_p29 hm, ↓zt_p30 hm, ↓zt_p31 hm, ↓zt_p32 hm, ↓zt_p33 hm, ↓zt_p34 hm, ↓zt_p35 hm, ↓zt_p36 hm, ↓zt_p40 hm, ↓zt_p19 hm, ↓zt_p20 hm, ↓zt_a1, ↓zt_a2, ↓zt_a3, ↓zt_a4, ↓zt_a5, ↓zt_a6, ↓zt_a7, ↓zt_a8, ↓zt_a9, ↓zt_a10, ↓zt_a11, ↓zt_a12, ↓zt_a13, ↓zt_a14, ↓zt_a15, ↓zt_a16, ↓zt_a17, ↓zt_a18, ↓zt_a19, ↓zt_a20, ↓zt_a21, ↓zt_s1 hm, ↓zt_s2 hm, ↓zt_s3 hm, ↓zt_s4 hm, ↓zt_s5 hm, ↓zt_s6 hm, ↓zt_s7 hm, ↓zt_s8 hm, ↓zt_s9 hm, ↓zt_s10 hm, ↓zt_s11 hm, ↓zt_s12 hm, ↓zt_s16 hm, ↓zt_s17 hm, ↓zt_s18 hm, ↓zt_s20 hm, ↓zt_s13 hm, ↓zt_s14 hm, ↓zt_s15 hm, ↓zt_s21 hm, ↓zt_l19, ↓zt_l17, forall_eq, ↓zqI_r, ↓zqL_r, ↓zqD_r, ↓zqF_r, ↓zqV_r, ↓zqR_r, ↓zqR_s, zboolb, zbool0, zbool1, true_and, and_true]
          refine ⟨fun h9 => absurd h9 (by decide), fun _ => ?_⟩
          have v23 : ∀ x y : Int32, va_up (va_up M4.1 21 x) 22 y 23 = nI S.2.2 := fun x y => by
            rw [va_up_ne _ _ (by omega), va_up_ne _ _ (by omega)]
            exact r4.2.2
          have v23' : ∀ x : Int32, va_up M4.1 21 x 23 = nI S.2.2 := fun x => by
            rw [va_up_ne _ _ (by omega)]
            exact r4.2.2
          have v22 : ∀ x : Int32, va_up M4.1 21 x 22 = nI S.2.1 := fun x => by
            rw [va_up_ne _ _ (by omega)]
            exact r4.2.1
          simp only [r4.1, r4.2.2, v23, v23', v22, e0]
          have fin : ∀ x y : Nat, x = (if S.2.2 = 0 then p else S.1) → y = (if S.2.2 = 0 then q else S.2.1) → rec3 (nI q + 1) (zt_S σ m N (((M4.sI 21 (nI x)).sI 22 (nI y)).sI 23 (nI S.2.2 + 1))) := by
            intro x y hx hy
            refine hrec3 _ ⟨_, rfl, (((kx3.trans k4).trans (zt_kx.i (by omega))).trans (zt_kx.i (by omega))).trans (zt_kx.i (by omega)), t4, ?_⟩
            rw [hstep, hgo, hx, hy, nI_1]
            exact ⟨rfl, rfl, rfl⟩
          refine ⟨fun hne => ⟨fun _ => fin _ _ (by rw [if_neg hne]) (by rw [if_neg hne]), fun he => absurd he hne⟩, fun he => ⟨fun hne => absurd he hne, fun _ => fin _ _ (by rw [if_pos he]) (by rw [if_pos he])⟩⟩
        · simp only [↓zt_rc, ↓zt_g0, ↓zt_g1, ↓zt_g2, ↓zt_g3, ↓zt_g4, ↓zt_g5, ↓zt_g6, ↓zt_g7, ↓zt_g8, ↓zt_g9, ↓zt_g10, ↓zt_g11, ↓zt_g12, ↓zt_g13, ↓zt_g14, ↓zt_g15, ↓zt_g16, ↓zt_g17, ↓zt_g18, ↓zt_g19, ↓zt_g20, ↓zt_g21, ↓zt_g22, ↓zt_g23, ↓zt_g24, ↓zt_g25, ↓zt_g26, ↓zt_g27, ↓zt_g28, ↓zt_g29, ↓zt_g30, ↓zt_g31, ↓zt_g32, ↓zt_g33, ↓zt_g34, ↓zt_g35, ↓zt_g36, ↓zt_g37, ↓zt_g38, ↓zt_g39, ↓zt_g40, ↓zt_p4 hm, ↓zt_p5 hm, ↓zt_p6 hm, ↓zt_p15 hm, ↓zt_p21 hm, ↓zt_p22 hm, ↓zt_p23 hm, ↓zt_p26 hm, ↓zt_p28 hm, ↓zt_p29 hm, ↓zt_p30 hm, ↓zt_p31 hm, ↓zt_p32 hm, ↓zt_p33 hm, ↓zt_p34 hm, ↓zt_p35 hm, ↓zt_p36 hm, ↓zt_p40 hm, ↓zt_p19 hm, ↓zt_p20 hm, ↓zt_a1, ↓zt_a2, ↓zt_a3, ↓zt_a4, ↓zt_a5, ↓zt_a6, ↓zt_a7, ↓zt_a8, ↓zt_a9, ↓zt_a10, ↓zt_a11, ↓zt_a12, ↓zt_a13, ↓zt_a14, ↓zt_a15, ↓zt_a16, ↓zt_a17, ↓zt_a18, ↓zt_a19, ↓zt_a20, ↓zt_a21, ↓zt_s1 hm, ↓zt_s2 hm, ↓zt_s3 hm, ↓zt_s4 hm, ↓zt_s5 hm, ↓zt_s6 hm, ↓zt_s7 hm, ↓zt_s8 hm, ↓zt_s9 hm, ↓zt_s10 hm, ↓zt_s11 hm, ↓zt_s12 hm, ↓zt_s16 hm, ↓zt_s17 hm, ↓zt_s18 hm, ↓zt_s20 hm, ↓zt_s13 hm, ↓zt_s14 hm, ↓zt_s15 hm, ↓zt_s21 hm, ↓zt_l19, ↓zt_l17, forall_eq, ↓zqI_r, ↓zqL_r, ↓zqD_r, ↓zqF_r, ↓zqV_r, ↓zqR_r, ↓zqR_s, zboolb, zbool0, zbool1, true_and, and_true]
          refine ⟨fun _ => skip M4 (kx3.trans k4) t4 ⟨(i4 21 (by omega)).trans r3.1, (i4 22 (by omega)).trans r3.2.1, (i4 23 (by omega)).trans r3.2.2⟩ (fun h9 => hg (zs_gdb_iff.mp h9.2.2)), fun h9 => absurd trivial h9⟩
      · rintro rec3 s' ⟨M3, rfl, kx3, t3, r3⟩
        have e3 : M3.2.2.1 1 = V := (kx3.2 1 (by omega) (by omega) (by omega)).trans hM
        simp only [↓zt_rc, ↓zt_g0, ↓zt_g1, ↓zt_g2, ↓zt_g3, ↓zt_g4, ↓zt_g5, ↓zt_g6, ↓zt_g7, ↓zt_g8, ↓zt_g9, ↓zt_g10, ↓zt_g11, ↓zt_g12, ↓zt_g13, ↓zt_g14, ↓zt_g15, ↓zt_g16, ↓zt_g17, ↓zt_g18, ↓zt_g19, ↓zt_g20, ↓zt_g21, ↓zt_g22, ↓zt_g23, ↓zt_g24, ↓zt_g25, ↓zt_g26, ↓zt_g27, ↓zt_g28, ↓zt_g29, ↓zt_g30, ↓zt_g31, ↓zt_g32, ↓zt_g33, ↓zt_g34, ↓zt_g35, ↓zt_g36, ↓zt_g37, ↓zt_g38, ↓zt_g39, ↓zt_g40, ↓zt_p4 hm, ↓zt_p5 hm, ↓zt_p6 hm, ↓zt_p15 hm, ↓zt_p21 hm, ↓zt_p22 hm, ↓zt_p23 hm, ↓zt_p26 hm, ↓zt_p28 hm, ↓zt_p29 hm, ↓zt_p30 hm, ↓zt_p31 hm, ↓zt_p32 hm, ↓zt_p33 hm, ↓zt_p34 hm, ↓zt_p35 hm, ↓zt_p36 hm, ↓zt_p40 hm, ↓zt_p19 hm, ↓zt_p20 hm, ↓zt_a1, ↓zt_a2, ↓zt_a3, ↓zt_a4, ↓zt_a5, ↓zt_a6, ↓zt_a7, ↓zt_a8, ↓zt_a9, ↓zt_a10, ↓zt_a11, ↓zt_a12, ↓zt_a13, ↓zt_a14, ↓zt_a15, ↓zt_a16, ↓zt_a17, ↓zt_a18, ↓zt_a19, ↓zt_a20, ↓zt_a21, ↓zt_s1 hm, ↓zt_s2 hm, ↓zt_s3 hm, ↓zt_s4 hm, ↓zt_s5 hm, ↓zt_s6 hm, ↓zt_s7 hm, ↓zt_s8 hm, ↓zt_s9 hm, ↓zt_s10 hm, ↓zt_s11 hm, ↓zt_s12 hm, ↓zt_s16 hm, ↓zt_s17 hm, ↓zt_s18 hm, ↓zt_s20 hm, ↓zt_s13 hm, ↓zt_s14 hm, ↓zt_s15 hm, ↓zt_s21 hm, ↓zt_l19, ↓zt_l17, forall_eq, ↓zqI_r, ↓zqL_r, ↓zqD_r, ↓zqF_r, ↓zqV_r, ↓zqR_r, ↓zqR_s, zboolb, zbool0, zbool1, true_and, and_true, ↓zl_cnt0 e3 hV, s2]
        refine ⟨fun _ => hrec2 _ ⟨M3, rfl, kx3, t3, ?_⟩, fun h9 => absurd (nI_le (Nat.le_refl _) (by omega)) h9⟩
        simp only [zs_kp]
        rw [if_neg (by omega)]
        exact r3
    · rintro rec2 s' ⟨M2, rfl, kx2, t2, r2⟩
      have e2 : M2.2.2.1 1 = V := (kx2.2 1 (by omega) (by omega) (by omega)).trans hM
      simp only [↓zt_rc, ↓zt_g0, ↓zt_g1, ↓zt_g2, ↓zt_g3, ↓zt_g4, ↓zt_g5, ↓zt_g6, ↓zt_g7, ↓zt_g8, ↓zt_g9, ↓zt_g10, ↓zt_g11, ↓zt_g12, ↓zt_g13, ↓zt_g14, ↓zt_g15, ↓zt_g16, ↓zt_g17, ↓zt_g18, ↓zt_g19, ↓zt_g20, ↓zt_g21, ↓zt_g22, ↓zt_g23, ↓zt_g24, ↓zt_g25, ↓zt_g26, ↓zt_g27, ↓zt_g28, ↓zt_g29, ↓zt_g30, ↓zt_g31, ↓zt_g32, ↓zt_g33, ↓zt_g34, ↓zt_g35, ↓zt_g36, ↓zt_g37, ↓zt_g38, ↓zt_g39, ↓zt_g40, ↓zt_p4 hm, ↓zt_p5 hm, ↓zt_p6 hm, ↓zt_p15 hm, ↓zt_p21 hm, ↓zt_p22 hm, ↓zt_p23 hm, ↓zt_p26 hm, ↓zt_p28 hm, ↓zt_p29 hm, ↓zt_p30 hm, ↓zt_p31 hm, ↓zt_p32 hm, ↓zt_p33 hm, ↓zt_p34 hm, ↓zt_p35 hm, ↓zt_p36 hm, ↓zt_p40 hm, ↓zt_p19 hm, ↓zt_p20 hm, ↓zt_a1, ↓zt_a2, ↓zt_a3, ↓zt_a4, ↓zt_a5, ↓zt_a6, ↓zt_a7, ↓zt_a8, ↓zt_a9, ↓zt_a10, ↓zt_a11, ↓zt_a12, ↓zt_a13, ↓zt_a14, ↓zt_a15, ↓zt_a16, ↓zt_a17, ↓zt_a18, ↓zt_a19, ↓zt_a20, ↓zt_a21, ↓zt_s1 hm, ↓zt_s2 hm, ↓zt_s3 hm, ↓zt_s4 hm, ↓zt_s5 hm, ↓zt_s6 hm, ↓zt_s7 hm, ↓zt_s8 hm, ↓zt_s9 hm, ↓zt_s10 hm, ↓zt_s11 hm, ↓zt_s12 hm, ↓zt_s16 hm, ↓zt_s17 hm, ↓zt_s18 hm, ↓zt_s20 hm, ↓zt_s13 hm, ↓zt_s14 hm, ↓zt_s15 hm, ↓zt_s21 hm, ↓zt_l19, ↓zt_l17, forall_eq, ↓zqI_r, ↓zqL_r, ↓zqD_r, ↓zqF_r, ↓zqV_r, ↓zqR_r, ↓zqR_s, zboolb, zbool0, zbool1, true_and, and_true, ↓zl_cnt1 e2 hV, s1]
      refine ⟨fun _ => hrec _ ⟨M2, rfl, kx2, t2, ?_⟩, fun h9 => absurd (nI_le (Nat.le_refl _) (by omega)) h9⟩
      simp only [zs_kk]
      rw [if_neg (by omega)]
      exact r2
  · rintro rec s' ⟨M1, rfl, kx1, t1, r1⟩
    exact ⟨fun _ => h M1 kx1 t1 r1, fun h9 => absurd (nI_lt (a := 5) (b := 6) (by omega) (by omega)) h9⟩
end ZTH
