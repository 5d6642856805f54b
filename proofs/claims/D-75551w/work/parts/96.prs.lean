/-! READING TEXTS: numbers; where a text begins and ends -/
theorem lc_gt (x y : Int64) : 0 < lg_cmp x y ↔ y.toInt < x.toInt := by
  unfold lg_cmp
  simp only [gt_iff_lt, Int64.lt_iff_toInt_lt, ← Int64.toInt_inj]
  by_cases h1 : y.toInt < x.toInt
  · rw [if_pos h1]
    exact ⟨fun _ => h1, fun _ => by decide⟩
  · rw [if_neg h1]
    by_cases h2 : x.toInt = y.toInt
    · rw [if_pos h2]
      exact ⟨fun h => absurd h (by decide), fun h => absurd h h1⟩
    · rw [if_neg h2]
      exact ⟨fun h => absurd h (by decide), fun h => absurd h h1⟩
theorem zl_299 {G : zPg} {n : Nat} {Q : zQ} {Y : zY} {s : zS} {x y : Int} (h1 : -9223372036854775808 ≤ x) (h2 : x < 9223372036854775808) (h3 : -9223372036854775808 ≤ y) (h4 : y < 9223372036854775808) (h : Q (some (.long (iL (min x y)))) s) : zCall G (n + 1) 299 [.long (iL x), .long (iL y)] Q Y s := by
  refine ze299 ⟨_, _, rfl, ?_⟩
  simp only [zJ, lc_gt, iL_to h1 h2, iL_to h3 h4]
  by_cases g : y < x
  · rw [show min x y = y by omega] at h
    exact ⟨fun _ => h, fun h9 => absurd g h9⟩
  · rw [show min x y = x by omega] at h
    exact ⟨fun h9 => absurd h9 g, fun _ => h⟩
theorem iL_I {z : Int} (h1 : -2147483648 ≤ z) (h2 : z < 2147483648) : (iL z).toInt32 = iI z := by
  rw [← iI_L h1 h2, Int32.toInt32_toInt64]
/-- a number's text: where it stands then, what it is -/
def zp_n1 (S : zp_P) : zp_P := zp_chk S (¬ S.2.1 = 0 ∨ S.1.1 = 2) 1
def zp_n2 (b : Nat → Nat) (S : zp_P) (lo hi : Nat) : zp_P := zp_chk (zp_n1 S) (¬ (zp_n1 S).2.1 = 0 ∨ (lo ≤ zp_val b (zp_n1 S).1 ∧ zp_val b (zp_n1 S).1 ≤ hi)) 2
def zp_nS (b : Nat → Nat) (L : Nat) (S : zp_P) (lo hi : Nat) : zp_P := zp_adv b L (zp_n2 b S lo hi)
def zp_nv (b : Nat → Nat) (L : Nat) (S : zp_P) (lo hi : Nat) : Nat := if (zp_nS b L S lo hi).2.1 = 0 then zp_val b (zp_n1 S).1 else lo
section ZPN
variable {G : zPg} {n : Nat} {σ : zS} {m : Nat} {N : Nat → Option Nat} {M M' M'' M0 : zt_M} {Q : zQ} {Y : zY} {V : zs_V} {b : Nat → Nat} {L : Nat} {S : zp_P}
theorem zt_277 (hs : zt_ps b L S M) (h : Q (some (.int (nI (zp_val b S.1)))) (zt_S σ m N M)) : zCall G (n + 2) 277 [.ref m] Q Y (zt_S σ m N M) := by
  have t2 : M.1 32 = 2 ↔ S.1.1 = 2 := hs.t 2 (by omega)
  have hL := hs.1.1
  have ho := hs.2.1
  have hle := ho.2.1
  have hle2 := ho.2.2.1
  have e31 := hs.2.2.1.2.1
  have e30 := hs.2.2.1.2.2
  refine ze277 ⟨_, rfl, ?_⟩
  simp only [↓zt_g31, e31]
  refine zf3 S.1.2.1 S.1.2.2 (fun k x s' => s' = zt_S σ m N M ∧ x = nI (if S.1.1 = 2 then zp_vf b S.1.2.1 (k - S.1.2.1) else 0)) hle ?_ ?_ ⟨rfl, ?_⟩
  · rintro rec k x s' hk1 hk2 ⟨rfl, rfl⟩ hrec
    simp only [↓zt_rc, ↓zt_g0, ↓zt_g1, ↓zt_g2, ↓zt_g3, ↓zt_g4, ↓zt_g5, ↓zt_g6, ↓zt_g7, ↓zt_g8, ↓zt_g9, ↓zt_g10, ↓zt_g11, ↓zt_g12, ↓zt_g13, ↓zt_g14, ↓zt_g15, ↓zt_g16, ↓zt_g17, ↓zt_g18, ↓zt_g19, ↓zt_g20, ↓zt_g21, ↓zt_g22, ↓zt_g23, ↓zt_g24, ↓zt_g25, ↓zt_g26, ↓zt_g27, ↓zt_g28, ↓zt_g29, ↓zt_g30, ↓zt_g31, ↓zt_g32, ↓zt_g33, ↓zt_g34, ↓zt_g35, ↓zt_g36, ↓zt_g37, ↓zt_g38, ↓zt_g39, ↓zt_g40, ↓zt_a1, ↓zt_a2, ↓zt_a3, ↓zt_a4, ↓zt_a5, ↓zt_a6, ↓zt_a7, ↓zt_a8, ↓zt_a9, ↓zt_a10, ↓zt_a11, ↓zt_a12, ↓zt_a13, ↓zt_a14, ↓zt_a15, ↓zt_a16, ↓zt_a17, ↓zt_a18, ↓zt_a19, ↓zt_a20, ↓zt_a21, ↓zt_l19, ↓zt_l17, forall_eq, ↓zqI_r, ↓zqL_r, ↓zqD_r, ↓zqF_r, ↓zqV_r, ↓zqR_r, ↓zqR_s, zboolb, zbool0, zbool1, true_and, and_true, zJ, e30, t2]
    refine ⟨fun h9 => absurd h9 (nI_ge hk2 (by omega)), fun _ => ⟨fun hn => ?_, fun hy => ?_⟩⟩
    · rw [if_neg hn]
      unfold zp_val at h
      rw [if_neg hn] at h
      exact h
    · have hb := hs.1.2.2 k (by omega)
      have hd := of_decide_eq_true (ho.2.2.2.2.1 hy k hk1 hk2)
      have hv := zp_vf_le b S.1.2.1 (k - S.1.2.1)
      rw [if_pos hy, nI_cl (by omega), hb.1]
      refine ⟨nI_i (by omega) (by omega), ?_⟩
      have e : ((10 : Int64) * (nI (zp_vf b S.1.2.1 (k - S.1.2.1))).toInt64 + (nI (b k)).toInt64) - (48 : Int64) = iL (10 * (zp_vf b S.1.2.1 (k - S.1.2.1) : Int) + (b k : Int) - 48) := by
        rw [← iI_nat, ← iI_nat, iI_L (by omega) (by omega), iI_L (by omega) (by omega)]
        show iL 10 * _ + _ - iL 48 = _
        rw [iL_mul, iL_add, iL_sub]
      rw [e]
      refine zl_299 (x := 2000000000) (by omega) (by omega) (by omega) (by omega) (zqL_r.mpr ?_)
      have e2 : (min 2000000000 (10 * (zp_vf b S.1.2.1 (k - S.1.2.1) : Int) + (b k : Int) - 48)) = ((zp_vf b S.1.2.1 (k + 1 - S.1.2.1) : Nat) : Int) := by
        rw [show k + 1 - S.1.2.1 = (k - S.1.2.1) + 1 by omega]
        show _ = ((min 2000000000 (10 * zp_vf b S.1.2.1 (k - S.1.2.1) + b (S.1.2.1 + (k - S.1.2.1)) - 48) : Nat) : Int)
        rw [show S.1.2.1 + (k - S.1.2.1) = k by omega]
        omega
      have hv' := zp_vf_le b S.1.2.1 (k + 1 - S.1.2.1)
      rw [e2, iL_I (by omega) (by omega), iI_nat]
      exact hrec _ _ ⟨rfl, by rw [if_pos hy]⟩
  · rintro rec x s' ⟨rfl, rfl⟩
    simp only [↓zt_rc, ↓zt_g0, ↓zt_g1, ↓zt_g2, ↓zt_g3, ↓zt_g4, ↓zt_g5, ↓zt_g6, ↓zt_g7, ↓zt_g8, ↓zt_g9, ↓zt_g10, ↓zt_g11, ↓zt_g12, ↓zt_g13, ↓zt_g14, ↓zt_g15, ↓zt_g16, ↓zt_g17, ↓zt_g18, ↓zt_g19, ↓zt_g20, ↓zt_g21, ↓zt_g22, ↓zt_g23, ↓zt_g24, ↓zt_g25, ↓zt_g26, ↓zt_g27, ↓zt_g28, ↓zt_g29, ↓zt_g30, ↓zt_g31, ↓zt_g32, ↓zt_g33, ↓zt_g34, ↓zt_g35, ↓zt_g36, ↓zt_g37, ↓zt_g38, ↓zt_g39, ↓zt_g40, ↓zt_a1, ↓zt_a2, ↓zt_a3, ↓zt_a4, ↓zt_a5, ↓zt_a6, ↓zt_a7, ↓zt_a8, ↓zt_a9, ↓zt_a10, ↓zt_a11, ↓zt_a12, ↓zt_a13, ↓zt_a14, ↓zt_a15, ↓zt_a16, ↓zt_a17, ↓zt_a18, ↓zt_a19, ↓zt_a20, ↓zt_a21, ↓zt_l19, ↓zt_l17, forall_eq, ↓zqI_r, ↓zqL_r, ↓zqD_r, ↓zqF_r, ↓zqV_r, ↓zqR_r, ↓zqR_s, zboolb, zbool0, zbool1, true_and, and_true, zJ, e30, t2]
    exact ⟨fun _ => h, fun h9 => absurd (nI_le (Nat.le_refl _) (by omega)) h9⟩
  · rw [Nat.sub_self]
    split
    · rfl
    · rfl
theorem zt_276 (hm : G.1 ≤ m) (hs : zt_ps b L S M) {lo hi : Nat} (hlo : lo ≤ 1000) (hhi : hi ≤ 10000) (h : ∀ M', zt_pr M M' → zt_ps b L (zp_nS b L S lo hi) M' → Q (some (.int (nI (zp_nv b L S lo hi)))) (zt_S σ m N M')) : zCall G (n + 5) 276 [.ref m, .int (nI lo), .int (nI hi)] Q Y (zt_S σ m N M) := by
  have t2 : M.1 32 = 2 ↔ S.1.1 = 2 := hs.t 2 (by omega)
  refine ze276 ⟨_, _, _, rfl, ?_⟩
  simp only [↓zt_g33, hs.e0]
  refine zJ_go (fun (j : Int32 → zS → Prop) => j (zs_b (¬ S.2.1 = 0 ∨ S.1.1 = 2)) (zt_S σ m N M)) ?_ ?_
  · simp only [↓zt_rc]
    refine zt_273 hm hs (c := 1) (by omega) fun M1 k1 k2 => zqV_r.mpr ?_
    simp only [↓zt_rc]
    refine zt_277 k2 (zqI_r.mpr ?_)
    have hv := zp_val_le b (zp_chk S (¬ S.2.1 = 0 ∨ S.1.1 = 2) 1).1
    simp only [↓zt_g33, k2.e0]
    refine zJ_go (fun (j : Int32 → zS → Prop) => j (zs_b (¬ (zp_n1 S).2.1 = 0 ∨ (lo ≤ zp_val b (zp_n1 S).1 ∧ zp_val b (zp_n1 S).1 ≤ hi))) (zt_S σ m N M1)) ?_ ?_
    · simp only [↓zt_rc]
      refine zt_273 hm k2 (c := 2) (by omega) fun M2 k3 k4 => zqV_r.mpr ?_
      simp only [↓zt_rc]
      refine zt_275 hm k4 fun M3 k5 k6 => zqV_r.mpr ?_
      have k6 : zt_ps b L (zp_nS b L S lo hi) M3 := k6
      simp only [↓zt_rc, ↓zt_g0, ↓zt_g1, ↓zt_g2, ↓zt_g3, ↓zt_g4, ↓zt_g5, ↓zt_g6, ↓zt_g7, ↓zt_g8, ↓zt_g9, ↓zt_g10, ↓zt_g11, ↓zt_g12, ↓zt_g13, ↓zt_g14, ↓zt_g15, ↓zt_g16, ↓zt_g17, ↓zt_g18, ↓zt_g19, ↓zt_g20, ↓zt_g21, ↓zt_g22, ↓zt_g23, ↓zt_g24, ↓zt_g25, ↓zt_g26, ↓zt_g27, ↓zt_g28, ↓zt_g29, ↓zt_g30, ↓zt_g31, ↓zt_g32, ↓zt_g33, ↓zt_g34, ↓zt_g35, ↓zt_g36, ↓zt_g37, ↓zt_g38, ↓zt_g39, ↓zt_g40, ↓zt_p4 hm, ↓zt_p5 hm, ↓zt_p6 hm, ↓zt_p15 hm, ↓zt_p21 hm, ↓zt_p22 hm, ↓zt_p23 hm, ↓zt_p26 hm, ↓zt_p28 hm, ↓zt_p29 hm, ↓zt_p30 hm, ↓zt_p31 hm, ↓zt_p32 hm, ↓zt_p33 hm, ↓zt_p34 hm, ↓zt_p35 hm, ↓zt_p36 hm, ↓zt_p40 hm, ↓zt_p19 hm, ↓zt_p20 hm, ↓zt_a1, ↓zt_a2, ↓zt_a3, ↓zt_a4, ↓zt_a5, ↓zt_a6, ↓zt_a7, ↓zt_a8, ↓zt_a9, ↓zt_a10, ↓zt_a11, ↓zt_a12, ↓zt_a13, ↓zt_a14, ↓zt_a15, ↓zt_a16, ↓zt_a17, ↓zt_a18, ↓zt_a19, ↓zt_a20, ↓zt_a21, ↓zt_s1 hm, ↓zt_s2 hm, ↓zt_s3 hm, ↓zt_s4 hm, ↓zt_s5 hm, ↓zt_s6 hm, ↓zt_s7 hm, ↓zt_s8 hm, ↓zt_s9 hm, ↓zt_s10 hm, ↓zt_s11 hm, ↓zt_s12 hm, ↓zt_s16 hm, ↓zt_s17 hm, ↓zt_s18 hm, ↓zt_s20 hm, ↓zt_s13 hm, ↓zt_s14 hm, ↓zt_s15 hm, ↓zt_s21 hm, ↓zt_l19, ↓zt_l17, forall_eq, ↓zqI_r, ↓zqL_r, ↓zqD_r, ↓zqF_r, ↓zqV_r, ↓zqR_r, ↓zqR_s, zboolb, zbool0, zbool1, true_and, and_true, zJ, k6.e0]
      have := h M3 ((k1.trans k3).trans k5) k6
      unfold zp_nv at this
      refine ⟨fun hn => ?_, fun hy => ?_⟩
      · rw [if_neg hn] at this
        exact this
      · rw [if_pos hy] at this
        exact this
    · intro j hj
      have ec : (nI lo ≤ nI (zp_val b (zp_n1 S).1) ∧ nI (zp_val b (zp_n1 S).1) ≤ nI hi) ↔ (lo ≤ zp_val b (zp_n1 S).1 ∧ zp_val b (zp_n1 S).1 ≤ hi) := by
        have hv' := zp_val_le b (zp_n1 S).1
        rw [nI_leI (by omega) (by omega), nI_leI (by omega) (by omega)]
      show (¬ (zp_n1 S).2.1 = 0 → j 1 (zt_S σ m N M1)) ∧ ((zp_n1 S).2.1 = 0 → zcl (zCall G (n + 4)) 166 [.int (nI (zp_val b (zp_n1 S).1)), .int (nI lo), .int (nI hi)] Y (zt_S σ m N M1) _)
      refine ⟨fun hn => ?_, fun hy => zl_166.mpr (zqI_r.mpr ?_)⟩
      · rw [zs_bt (Or.inl hn)] at hj
        exact hj
      · simp only [zs_b0, Classical.not_not, ec]
        refine ⟨fun hno => ?_, fun hin => ?_⟩
        · rw [zs_bf (fun h9 => h9.elim (fun h8 => h8 hy) hno)] at hj
          exact hj
        · rw [zs_bt (Or.inr hin)] at hj
          exact hj
  · intro j hj
    simp only [↓zt_rc, ↓zt_g0, ↓zt_g1, ↓zt_g2, ↓zt_g3, ↓zt_g4, ↓zt_g5, ↓zt_g6, ↓zt_g7, ↓zt_g8, ↓zt_g9, ↓zt_g10, ↓zt_g11, ↓zt_g12, ↓zt_g13, ↓zt_g14, ↓zt_g15, ↓zt_g16, ↓zt_g17, ↓zt_g18, ↓zt_g19, ↓zt_g20, ↓zt_g21, ↓zt_g22, ↓zt_g23, ↓zt_g24, ↓zt_g25, ↓zt_g26, ↓zt_g27, ↓zt_g28, ↓zt_g29, ↓zt_g30, ↓zt_g31, ↓zt_g32, ↓zt_g33, ↓zt_g34, ↓zt_g35, ↓zt_g36, ↓zt_g37, ↓zt_g38, ↓zt_g39, ↓zt_g40, ↓zt_p4 hm, ↓zt_p5 hm, ↓zt_p6 hm, ↓zt_p15 hm, ↓zt_p21 hm, ↓zt_p22 hm, ↓zt_p23 hm, ↓zt_p26 hm, ↓zt_p28 hm, ↓zt_p29 hm, ↓zt_p30 hm, ↓zt_p31 hm, ↓zt_p32 hm, ↓zt_p33 hm, ↓zt_p34 hm, ↓zt_p35 hm, ↓zt_p36 hm, ↓zt_p40 hm, ↓zt_p19 hm, ↓zt_p20 hm, ↓zt_a1, ↓zt_a2, ↓zt_a3, ↓zt_a4, ↓zt_a5, ↓zt_a6, ↓zt_a7, ↓zt_a8, ↓zt_a9, ↓zt_a10, ↓zt_a11, ↓zt_a12, ↓zt_a13, ↓zt_a14, ↓zt_a15, ↓zt_a16, ↓zt_a17, ↓zt_a18, ↓zt_a19, ↓zt_a20, ↓zt_a21, ↓zt_s1 hm, ↓zt_s2 hm, ↓zt_s3 hm, ↓zt_s4 hm, ↓zt_s5 hm, ↓zt_s6 hm, ↓zt_s7 hm, ↓zt_s8 hm, ↓zt_s9 hm, ↓zt_s10 hm, ↓zt_s11 hm, ↓zt_s12 hm, ↓zt_s16 hm, ↓zt_s17 hm, ↓zt_s18 hm, ↓zt_s20 hm, ↓zt_s13 hm, ↓zt_s14 hm, ↓zt_s15 hm, ↓zt_s21 hm, ↓zt_l19, ↓zt_l17, forall_eq, ↓zqI_r, ↓zqL_r, ↓zqD_r, ↓zqF_r, ↓zqV_r, ↓zqR_r, ↓zqR_s, zboolb, zbool0, zbool1, true_and, and_true, zJ, t2]
    refine ⟨fun hn => ?_, fun hy => ⟨fun hn => ?_, fun h2 => ?_⟩⟩
    · rw [zs_bt (Or.inl hn)] at hj
      exact hj
    · rw [zs_bf (fun h9 => h9.elim (fun h8 => h8 hy) hn)] at hj
      exact hj
    · rw [zs_bt (Or.inr h2)] at hj
      exact hj
/-- a text begins -/
def zp_S0 (b : Nat → Nat) (L : Nat) : zp_P := (zp_tok b L 0, 0, 0)
theorem zt_265 (hm : G.1 ≤ m) (hL : L ≤ 500) (hb : ∀ i, i < L → M.2.2.1 18 i = nI (b i) ∧ b i < 256) (h : ∀ M', (∀ k, k < 29 ∨ (34 < k ∧ k ≠ 36) → M'.1 k = M.1 k) → M'.1 36 = 0 → M'.2 = M.2 → zt_ps b L (zp_S0 b L) M' → Q none (zt_S σ m N M')) : zCall G (n + 4) 265 [.ref m, .int (nI L)] Q Y (zt_S σ m N M) := by
  refine ze265 ⟨_, _, rfl, ?_⟩
  simp only [↓zt_rc, ↓zt_g0, ↓zt_g1, ↓zt_g2, ↓zt_g3, ↓zt_g4, ↓zt_g5, ↓zt_g6, ↓zt_g7, ↓zt_g8, ↓zt_g9, ↓zt_g10, ↓zt_g11, ↓zt_g12, ↓zt_g13, ↓zt_g14, ↓zt_g15, ↓zt_g16, ↓zt_g17, ↓zt_g18, ↓zt_g19, ↓zt_g20, ↓zt_g21, ↓zt_g22, ↓zt_g23, ↓zt_g24, ↓zt_g25, ↓zt_g26, ↓zt_g27, ↓zt_g28, ↓zt_g29, ↓zt_g30, ↓zt_g31, ↓zt_g32, ↓zt_g33, ↓zt_g34, ↓zt_g35, ↓zt_g36, ↓zt_g37, ↓zt_g38, ↓zt_g39, ↓zt_g40, ↓zt_p4 hm, ↓zt_p5 hm, ↓zt_p6 hm, ↓zt_p15 hm, ↓zt_p21 hm, ↓zt_p22 hm, ↓zt_p23 hm, ↓zt_p26 hm, ↓zt_p28 hm, ↓zt_p29 hm, ↓zt_p30 hm, ↓zt_p31 hm, ↓zt_p32 hm, ↓zt_p33 hm, ↓zt_p34 hm, ↓zt_p35 hm, ↓zt_p36 hm, ↓zt_p40 hm, ↓zt_p19 hm, ↓zt_p20 hm, ↓zt_a1, ↓zt_a2, ↓zt_a3, ↓zt_a4, ↓zt_a5, ↓zt_a6, ↓zt_a7, ↓zt_a8, ↓zt_a9, ↓zt_a10, ↓zt_a11, ↓zt_a12, ↓zt_a13, ↓zt_a14, ↓zt_a15, ↓zt_a16, ↓zt_a17, ↓zt_a18, ↓zt_a19, ↓zt_a20, ↓zt_a21, ↓zt_s1 hm, ↓zt_s2 hm, ↓zt_s3 hm, ↓zt_s4 hm, ↓zt_s5 hm, ↓zt_s6 hm, ↓zt_s7 hm, ↓zt_s8 hm, ↓zt_s9 hm, ↓zt_s10 hm, ↓zt_s11 hm, ↓zt_s12 hm, ↓zt_s16 hm, ↓zt_s17 hm, ↓zt_s18 hm, ↓zt_s20 hm, ↓zt_s13 hm, ↓zt_s14 hm, ↓zt_s15 hm, ↓zt_s21 hm, ↓zt_l19, ↓zt_l17, forall_eq, ↓zqI_r, ↓zqL_r, ↓zqD_r, ↓zqF_r, ↓zqV_r, ↓zqR_r, ↓zqR_s, zboolb, zbool0, zbool1, true_and, and_true]
  refine zt_266 hm (b := b) (L := L) (p0 := 0) ⟨hL, rfl, hb⟩ rfl (by omega) fun M' k1 k2 => zqV_r.mpr (h M' ?_ ?_ k1.2 ⟨⟨hL, ?_, ?_⟩, zp_tok_ok hL (by omega), k2, by show 0 ≤ 9; omega, ?_, fun g => absurd rfl g⟩)
  · intro k hk
    rw [k1.1 k (by omega) (by omega) (by omega)]
    show va_up (va_up (va_up (va_up M.1 29 (nI L)) 30 0) 33 0) 36 0 k = _
    rw [va_up_ne _ _ (by omega), va_up_ne _ _ (by omega), va_up_ne _ _ (by omega), va_up_ne _ _ (by omega)]
  · exact k1.1 36 (by omega) (by omega) (by omega)
  · exact k1.1 29 (by omega) (by omega) (by omega)
  · rw [k1.2]
    exact hb
  · exact k1.1 33 (by omega) (by omega) (by omega)
end ZPN
