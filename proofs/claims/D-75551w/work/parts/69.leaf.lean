/-! THE REFERENCE's SMALL METHODS: what a call is -/
theorem zc_eq {G : zPg} {n k : Nat} {b : zBd} {args : List Value} {Q : zQ} {Y : zY} {σ : zS} (hk : k ≠ 525) (hb : zBod k = b) : zCall G (n + 1) k args Q Y σ ↔ b G (zCall G n) args Q Y σ := by
  show (if k = 525 then zb525 G (fun j => (zCall2 G n).2 (j - 600)) (zCall2 G n).1 args Q Y σ else zBod k G (zCall2 G n).1 args Q Y σ) ↔ _
  rw [if_neg hk, hb]
  exact Iff.rfl
theorem va_rf_iff {v w : Option Nat} : va_rf v = va_rf w ↔ v = w := ⟨va_rf_inj, fun h => h ▸ rfl⟩
theorem va_rf_iff2 {v : Nat} {w : Option Nat} : Value.ref v = va_rf w ↔ some v = w := va_rf_iff (v := some v)
theorem zi_0 : vp_in (0 : Int32) 61 ↔ True := ⟨fun _ => trivial, fun _ => by unfold vp_in; decide⟩
theorem zj_0 : Int32.toNatClampNeg (0 : Int32) = 0 := by decide
theorem zi_1 : vp_in (1 : Int32) 61 ↔ True := ⟨fun _ => trivial, fun _ => by unfold vp_in; decide⟩
theorem zj_1 : Int32.toNatClampNeg (1 : Int32) = 1 := by decide
theorem zi_2 : vp_in (2 : Int32) 61 ↔ True := ⟨fun _ => trivial, fun _ => by unfold vp_in; decide⟩
theorem zj_2 : Int32.toNatClampNeg (2 : Int32) = 2 := by decide
theorem zi_3 : vp_in (3 : Int32) 61 ↔ True := ⟨fun _ => trivial, fun _ => by unfold vp_in; decide⟩
theorem zj_3 : Int32.toNatClampNeg (3 : Int32) = 3 := by decide
theorem zi_4 : vp_in (4 : Int32) 61 ↔ True := ⟨fun _ => trivial, fun _ => by unfold vp_in; decide⟩
theorem zj_4 : Int32.toNatClampNeg (4 : Int32) = 4 := by decide
theorem zi_5 : vp_in (5 : Int32) 61 ↔ True := ⟨fun _ => trivial, fun _ => by unfold vp_in; decide⟩
theorem zj_5 : Int32.toNatClampNeg (5 : Int32) = 5 := by decide
theorem zi_6 : vp_in (6 : Int32) 61 ↔ True := ⟨fun _ => trivial, fun _ => by unfold vp_in; decide⟩
theorem zj_6 : Int32.toNatClampNeg (6 : Int32) = 6 := by decide
theorem zi_7 : vp_in (7 : Int32) 61 ↔ True := ⟨fun _ => trivial, fun _ => by unfold vp_in; decide⟩
theorem zj_7 : Int32.toNatClampNeg (7 : Int32) = 7 := by decide
theorem zi_8 : vp_in (8 : Int32) 61 ↔ True := ⟨fun _ => trivial, fun _ => by unfold vp_in; decide⟩
theorem zj_8 : Int32.toNatClampNeg (8 : Int32) = 8 := by decide
theorem zi_9 : vp_in (9 : Int32) 61 ↔ True := ⟨fun _ => trivial, fun _ => by unfold vp_in; decide⟩
theorem zj_9 : Int32.toNatClampNeg (9 : Int32) = 9 := by decide
theorem zi_10 : vp_in (10 : Int32) 61 ↔ True := ⟨fun _ => trivial, fun _ => by unfold vp_in; decide⟩
theorem zj_10 : Int32.toNatClampNeg (10 : Int32) = 10 := by decide
section ZTL
variable {G : zPg} {n : Nat} {σ s : zS} {m : Nat} {N : Nat → Option Nat} {M : zt_M} {Q : zQ} {Y : zY}
theorem zl_156 : zCall G (n + 1) 156 [.ref m] Q Y (zt_S σ m N M) ↔ Q (some (.int (M.1 5))) (zt_S σ m N M) := by
  rw [zc_eq (by decide) (b := zb156) rfl]
  simp only [zb156, forall_eq, List.cons.injEq, Value.ref.injEq, Value.int.injEq, Value.long.injEq, and_true, and_assoc, true_and, va_rf_iff, va_rf_iff2, exists_and_left, exists_eq_left', exists_eq_left, ↓zt_rc, ↓zt_g0, ↓zt_g1, ↓zt_g2, ↓zt_g3, ↓zt_g4, ↓zt_g5, ↓zt_g6, ↓zt_g7, ↓zt_g8, ↓zt_g9, ↓zt_g10, ↓zt_g11, ↓zt_g12, ↓zt_g13, ↓zt_g14, ↓zt_g15, ↓zt_g16, ↓zt_g17, ↓zt_g18, ↓zt_g19, ↓zt_g20, ↓zt_g21, ↓zt_g22, ↓zt_g23, ↓zt_g24, ↓zt_g25, ↓zt_g26, ↓zt_g27, ↓zt_g28, ↓zt_g29, ↓zt_g30, ↓zt_g31, ↓zt_g32, ↓zt_g33, ↓zt_g34, ↓zt_g35, ↓zt_g36, ↓zt_g37, ↓zt_g38, ↓zt_g39, ↓zt_g40, ↓zt_a1, ↓zt_a2, ↓zt_a3, ↓zt_a4, ↓zt_a5, ↓zt_a6, ↓zt_a7, ↓zt_a8, ↓zt_a9, ↓zt_a10, ↓zt_a11, ↓zt_a12, ↓zt_a13, ↓zt_a14, ↓zt_a15, ↓zt_a16, ↓zt_a17, ↓zt_a18, ↓zt_a19, ↓zt_a20, ↓zt_a21, ↓zt_l19, ↓zt_l17, forall_eq, ↓zqI_r, ↓zqL_r, ↓zqD_r, ↓zqF_r, ↓zqV_r, ↓zqR_r, ↓zqR_s, zboolb, zbool0, zbool1, true_and, and_true, zi_0, zj_0, zi_1, zj_1, zi_2, zj_2, zi_3, zj_3, zi_4, zj_4, zi_5, zj_5, zi_6, zj_6, zi_7, zj_7, zi_8, zj_8, zi_9, zj_9, zi_10, zj_10, true_and, and_true]
theorem zl_159 : zCall G (n + 1) 159 [.ref m] Q Y (zt_S σ m N M) ↔ Q (some (.int (M.2.2.1 1 0))) (zt_S σ m N M) := by
  rw [zc_eq (by decide) (b := zb159) rfl]
  simp only [zb159, forall_eq, List.cons.injEq, Value.ref.injEq, Value.int.injEq, Value.long.injEq, and_true, and_assoc, true_and, va_rf_iff, va_rf_iff2, exists_and_left, exists_eq_left', exists_eq_left, ↓zt_rc, ↓zt_g0, ↓zt_g1, ↓zt_g2, ↓zt_g3, ↓zt_g4, ↓zt_g5, ↓zt_g6, ↓zt_g7, ↓zt_g8, ↓zt_g9, ↓zt_g10, ↓zt_g11, ↓zt_g12, ↓zt_g13, ↓zt_g14, ↓zt_g15, ↓zt_g16, ↓zt_g17, ↓zt_g18, ↓zt_g19, ↓zt_g20, ↓zt_g21, ↓zt_g22, ↓zt_g23, ↓zt_g24, ↓zt_g25, ↓zt_g26, ↓zt_g27, ↓zt_g28, ↓zt_g29, ↓zt_g30, ↓zt_g31, ↓zt_g32, ↓zt_g33, ↓zt_g34, ↓zt_g35, ↓zt_g36, ↓zt_g37, ↓zt_g38, ↓zt_g39, ↓zt_g40, ↓zt_a1, ↓zt_a2, ↓zt_a3, ↓zt_a4, ↓zt_a5, ↓zt_a6, ↓zt_a7, ↓zt_a8, ↓zt_a9, ↓zt_a10, ↓zt_a11, ↓zt_a12, ↓zt_a13, ↓zt_a14, ↓zt_a15, ↓zt_a16, ↓zt_a17, ↓zt_a18, ↓zt_a19, ↓zt_a20, ↓zt_a21, ↓zt_l19, ↓zt_l17, forall_eq, ↓zqI_r, ↓zqL_r, ↓zqD_r, ↓zqF_r, ↓zqV_r, ↓zqR_r, ↓zqR_s, zboolb, zbool0, zbool1, true_and, and_true, zi_0, zj_0, zi_1, zj_1, zi_2, zj_2, zi_3, zj_3, zi_4, zj_4, zi_5, zj_5, zi_6, zj_6, zi_7, zj_7, zi_8, zj_8, zi_9, zj_9, zi_10, zj_10, true_and, and_true]
theorem zl_163 {x : Int32} (hm : G.1 ≤ m) : zCall G (n + 1) 163 [.ref m, .int x] Q Y (zt_S σ m N M) ↔ Q (some (.int 0)) (zt_S σ m N (M.sI 5 x)) := by
  rw [zc_eq (by decide) (b := zb163) rfl]
  simp only [zb163, forall_eq, List.cons.injEq, Value.ref.injEq, Value.int.injEq, Value.long.injEq, and_true, and_assoc, true_and, va_rf_iff, va_rf_iff2, exists_and_left, exists_eq_left', exists_eq_left, ↓zt_rc, ↓zt_g0, ↓zt_g1, ↓zt_g2, ↓zt_g3, ↓zt_g4, ↓zt_g5, ↓zt_g6, ↓zt_g7, ↓zt_g8, ↓zt_g9, ↓zt_g10, ↓zt_g11, ↓zt_g12, ↓zt_g13, ↓zt_g14, ↓zt_g15, ↓zt_g16, ↓zt_g17, ↓zt_g18, ↓zt_g19, ↓zt_g20, ↓zt_g21, ↓zt_g22, ↓zt_g23, ↓zt_g24, ↓zt_g25, ↓zt_g26, ↓zt_g27, ↓zt_g28, ↓zt_g29, ↓zt_g30, ↓zt_g31, ↓zt_g32, ↓zt_g33, ↓zt_g34, ↓zt_g35, ↓zt_g36, ↓zt_g37, ↓zt_g38, ↓zt_g39, ↓zt_g40, ↓zt_p4 hm, ↓zt_p5 hm, ↓zt_p6 hm, ↓zt_p15 hm, ↓zt_p21 hm, ↓zt_p22 hm, ↓zt_p23 hm, ↓zt_p26 hm, ↓zt_p28 hm, ↓zt_p29 hm, ↓zt_p30 hm, ↓zt_p31 hm, ↓zt_p32 hm, ↓zt_p33 hm, ↓zt_p34 hm, ↓zt_p35 hm, ↓zt_p36 hm, ↓zt_p40 hm, ↓zt_p19 hm, ↓zt_p20 hm, ↓zt_a1, ↓zt_a2, ↓zt_a3, ↓zt_a4, ↓zt_a5, ↓zt_a6, ↓zt_a7, ↓zt_a8, ↓zt_a9, ↓zt_a10, ↓zt_a11, ↓zt_a12, ↓zt_a13, ↓zt_a14, ↓zt_a15, ↓zt_a16, ↓zt_a17, ↓zt_a18, ↓zt_a19, ↓zt_a20, ↓zt_a21, ↓zt_s1 hm, ↓zt_s2 hm, ↓zt_s3 hm, ↓zt_s4 hm, ↓zt_s5 hm, ↓zt_s6 hm, ↓zt_s7 hm, ↓zt_s8 hm, ↓zt_s9 hm, ↓zt_s10 hm, ↓zt_s11 hm, ↓zt_s12 hm, ↓zt_s16 hm, ↓zt_s17 hm, ↓zt_s18 hm, ↓zt_s20 hm, ↓zt_s13 hm, ↓zt_s14 hm, ↓zt_s15 hm, ↓zt_s21 hm, ↓zt_l19, ↓zt_l17, forall_eq, ↓zqI_r, ↓zqL_r, ↓zqD_r, ↓zqF_r, ↓zqV_r, ↓zqR_r, ↓zqR_s, zboolb, zbool0, zbool1, true_and, and_true, zi_0, zj_0, zi_1, zj_1, zi_2, zj_2, zi_3, zj_3, zi_4, zj_4, zi_5, zj_5, zi_6, zj_6, zi_7, zj_7, zi_8, zj_8, zi_9, zj_9, zi_10, zj_10, true_and, and_true]
theorem zl_166 {x a b : Int32} : zCall G (n + 1) 166 [.int x, .int a, .int b] Q Y s ↔ Q (some (.int (zs_b (a ≤ x ∧ x ≤ b)))) s := by
  rw [zc_eq (by decide) (b := zb166) rfl]
  simp only [zb166, forall_eq, List.cons.injEq, Value.ref.injEq, Value.int.injEq, Value.long.injEq, and_true, and_assoc, true_and, va_rf_iff, va_rf_iff2, exists_and_left, exists_eq_left', exists_eq_left, zJ, zboolb, zbool0, zbool1, true_and, and_true]
  by_cases h1 : x < a
  · have h2 : ¬ a ≤ x := by rw [fa_lt] at h1; rw [fa_le]; omega
    rw [zs_bf (fun h => h2 h.1)]
    exact ⟨fun h => h.1 h1, fun h => ⟨fun _ => h, fun h9 => absurd h1 h9⟩⟩
  · have h2 : a ≤ x := by rw [fa_lt] at h1; rw [fa_le]; omega
    by_cases h3 : b < x
    · have h4 : ¬ x ≤ b := by rw [fa_lt] at h3; rw [fa_le]; omega
      rw [zs_bf (fun h => h4 h.2)]
      exact ⟨fun h => (h.2 h1).1 h3, fun h => ⟨fun _ => h, fun _ => ⟨fun _ => h, fun h9 => absurd h3 h9⟩⟩⟩
    · have h4 : x ≤ b := by rw [fa_lt] at h3; rw [fa_le]; omega
      rw [zs_bt ⟨h2, h4⟩]
      exact ⟨fun h => (h.2 h1).2 h3, fun h => ⟨fun h9 => absurd h9 h1, fun _ => ⟨fun h9 => absurd h9 h3, fun _ => h⟩⟩⟩
theorem zl_165 {x : Int32} : zCall G (n + 2) 165 [.ref m, .int x] Q Y (zt_S σ m N M) ↔ Q (some (.int (zs_b (0 ≤ x ∧ x ≤ M.2.2.1 1 0 - 1)))) (zt_S σ m N M) := by
  rw [zc_eq (by decide) (b := zb165) rfl]
  simp only [zb165, forall_eq, List.cons.injEq, Value.ref.injEq, Value.int.injEq, Value.long.injEq, and_true, and_assoc, true_and, va_rf_iff, va_rf_iff2, exists_and_left, exists_eq_left', exists_eq_left, ↓zt_rc, ↓zt_g0, ↓zt_g1, ↓zt_g2, ↓zt_g3, ↓zt_g4, ↓zt_g5, ↓zt_g6, ↓zt_g7, ↓zt_g8, ↓zt_g9, ↓zt_g10, ↓zt_g11, ↓zt_g12, ↓zt_g13, ↓zt_g14, ↓zt_g15, ↓zt_g16, ↓zt_g17, ↓zt_g18, ↓zt_g19, ↓zt_g20, ↓zt_g21, ↓zt_g22, ↓zt_g23, ↓zt_g24, ↓zt_g25, ↓zt_g26, ↓zt_g27, ↓zt_g28, ↓zt_g29, ↓zt_g30, ↓zt_g31, ↓zt_g32, ↓zt_g33, ↓zt_g34, ↓zt_g35, ↓zt_g36, ↓zt_g37, ↓zt_g38, ↓zt_g39, ↓zt_g40, ↓zt_a1, ↓zt_a2, ↓zt_a3, ↓zt_a4, ↓zt_a5, ↓zt_a6, ↓zt_a7, ↓zt_a8, ↓zt_a9, ↓zt_a10, ↓zt_a11, ↓zt_a12, ↓zt_a13, ↓zt_a14, ↓zt_a15, ↓zt_a16, ↓zt_a17, ↓zt_a18, ↓zt_a19, ↓zt_a20, ↓zt_a21, ↓zt_l19, ↓zt_l17, forall_eq, ↓zqI_r, ↓zqL_r, ↓zqD_r, ↓zqF_r, ↓zqV_r, ↓zqR_r, ↓zqR_s, zboolb, zbool0, zbool1, true_and, and_true, zi_0, zj_0, zi_1, zj_1, zi_2, zj_2, zi_3, zj_3, zi_4, zj_4, zi_5, zj_5, zi_6, zj_6, zi_7, zj_7, zi_8, zj_8, zi_9, zj_9, zi_10, zj_10, true_and, and_true, ↓zl_159, ↓zl_166]
theorem zl_167 {x y : Int32} : zCall G (n + 1) 167 [.ref m, .int x, .int y] Q Y (zt_S σ m N M) ↔ vp_in (11 + 4 * x + y) 61 ∧ Q (some (.int (M.2.2.1 1 (11 + 4 * x + y).toNatClampNeg))) (zt_S σ m N M) := by
  rw [zc_eq (by decide) (b := zb167) rfl]
  simp only [zb167, forall_eq, List.cons.injEq, Value.ref.injEq, Value.int.injEq, Value.long.injEq, and_true, and_assoc, true_and, va_rf_iff, va_rf_iff2, exists_and_left, exists_eq_left', exists_eq_left, ↓zt_rc, ↓zt_g0, ↓zt_g1, ↓zt_g2, ↓zt_g3, ↓zt_g4, ↓zt_g5, ↓zt_g6, ↓zt_g7, ↓zt_g8, ↓zt_g9, ↓zt_g10, ↓zt_g11, ↓zt_g12, ↓zt_g13, ↓zt_g14, ↓zt_g15, ↓zt_g16, ↓zt_g17, ↓zt_g18, ↓zt_g19, ↓zt_g20, ↓zt_g21, ↓zt_g22, ↓zt_g23, ↓zt_g24, ↓zt_g25, ↓zt_g26, ↓zt_g27, ↓zt_g28, ↓zt_g29, ↓zt_g30, ↓zt_g31, ↓zt_g32, ↓zt_g33, ↓zt_g34, ↓zt_g35, ↓zt_g36, ↓zt_g37, ↓zt_g38, ↓zt_g39, ↓zt_g40, ↓zt_a1, ↓zt_a2, ↓zt_a3, ↓zt_a4, ↓zt_a5, ↓zt_a6, ↓zt_a7, ↓zt_a8, ↓zt_a9, ↓zt_a10, ↓zt_a11, ↓zt_a12, ↓zt_a13, ↓zt_a14, ↓zt_a15, ↓zt_a16, ↓zt_a17, ↓zt_a18, ↓zt_a19, ↓zt_a20, ↓zt_a21, ↓zt_l19, ↓zt_l17, forall_eq, ↓zqI_r, ↓zqL_r, ↓zqD_r, ↓zqF_r, ↓zqV_r, ↓zqR_r, ↓zqR_s, zboolb, zbool0, zbool1, true_and, and_true, zi_0, zj_0, zi_1, zj_1, zi_2, zj_2, zi_3, zj_3, zi_4, zj_4, zi_5, zj_5, zi_6, zj_6, zi_7, zj_7, zi_8, zj_8, zi_9, zj_9, zi_10, zj_10, true_and, and_true]
theorem zl_179 {x : Int32} : zCall G (n + 1) 179 [.ref m, .int x] Q Y (zt_S σ m N M) ↔ vp_in x 1024 ∧ Q (some (.int (zs_b (M.2.2.1 5 x.toNatClampNeg ≤ M.2.2.1 1 1)))) (zt_S σ m N M) := by
  rw [zc_eq (by decide) (b := zb179) rfl]
  simp only [zb179, forall_eq, List.cons.injEq, Value.ref.injEq, Value.int.injEq, Value.long.injEq, and_true, and_assoc, true_and, va_rf_iff, va_rf_iff2, exists_and_left, exists_eq_left', exists_eq_left, ↓zt_rc, ↓zt_g0, ↓zt_g1, ↓zt_g2, ↓zt_g3, ↓zt_g4, ↓zt_g5, ↓zt_g6, ↓zt_g7, ↓zt_g8, ↓zt_g9, ↓zt_g10, ↓zt_g11, ↓zt_g12, ↓zt_g13, ↓zt_g14, ↓zt_g15, ↓zt_g16, ↓zt_g17, ↓zt_g18, ↓zt_g19, ↓zt_g20, ↓zt_g21, ↓zt_g22, ↓zt_g23, ↓zt_g24, ↓zt_g25, ↓zt_g26, ↓zt_g27, ↓zt_g28, ↓zt_g29, ↓zt_g30, ↓zt_g31, ↓zt_g32, ↓zt_g33, ↓zt_g34, ↓zt_g35, ↓zt_g36, ↓zt_g37, ↓zt_g38, ↓zt_g39, ↓zt_g40, ↓zt_a1, ↓zt_a2, ↓zt_a3, ↓zt_a4, ↓zt_a5, ↓zt_a6, ↓zt_a7, ↓zt_a8, ↓zt_a9, ↓zt_a10, ↓zt_a11, ↓zt_a12, ↓zt_a13, ↓zt_a14, ↓zt_a15, ↓zt_a16, ↓zt_a17, ↓zt_a18, ↓zt_a19, ↓zt_a20, ↓zt_a21, ↓zt_l19, ↓zt_l17, forall_eq, ↓zqI_r, ↓zqL_r, ↓zqD_r, ↓zqF_r, ↓zqV_r, ↓zqR_r, ↓zqR_s, zboolb, zbool0, zbool1, true_and, and_true, zi_0, zj_0, zi_1, zj_1, zi_2, zj_2, zi_3, zj_3, zi_4, zj_4, zi_5, zj_5, zi_6, zj_6, zi_7, zj_7, zi_8, zj_8, zi_9, zj_9, zi_10, zj_10, true_and, and_true, zJ]
  refine and_congr_right fun _ => ?_
  by_cases h : M.2.2.1 1 1 < M.2.2.1 5 x.toNatClampNeg
  · have h2 : ¬ M.2.2.1 5 x.toNatClampNeg ≤ M.2.2.1 1 1 := by rw [fa_lt] at h; rw [fa_le]; omega
    rw [zs_bf h2]
    exact ⟨fun h9 => h9.1 h, fun h9 => ⟨fun _ => h9, fun h8 => absurd h h8⟩⟩
  · have h2 : M.2.2.1 5 x.toNatClampNeg ≤ M.2.2.1 1 1 := by rw [fa_lt] at h; rw [fa_le]; omega
    rw [zs_bt h2]
    exact ⟨fun h9 => h9.2 h, fun h9 => ⟨fun h8 => absurd h8 h, fun _ => h9⟩⟩
theorem zl_181 {x : Int32} : zCall G (n + 1) 181 [.ref m, .int x] Q Y (zt_S σ m N M) ↔ vp_in x 1024 ∧ vp_in (M.2.2.1 9 x.toNatClampNeg) 1024 ∧ Q (some (.int (M.2.2.1 6 x.toNatClampNeg - M.2.2.1 8 (M.2.2.1 9 x.toNatClampNeg).toNatClampNeg))) (zt_S σ m N M) := by
  rw [zc_eq (by decide) (b := zb181) rfl]
  simp only [zb181, forall_eq, List.cons.injEq, Value.ref.injEq, Value.int.injEq, Value.long.injEq, and_true, and_assoc, true_and, va_rf_iff, va_rf_iff2, exists_and_left, exists_eq_left', exists_eq_left, ↓zt_rc, ↓zt_g0, ↓zt_g1, ↓zt_g2, ↓zt_g3, ↓zt_g4, ↓zt_g5, ↓zt_g6, ↓zt_g7, ↓zt_g8, ↓zt_g9, ↓zt_g10, ↓zt_g11, ↓zt_g12, ↓zt_g13, ↓zt_g14, ↓zt_g15, ↓zt_g16, ↓zt_g17, ↓zt_g18, ↓zt_g19, ↓zt_g20, ↓zt_g21, ↓zt_g22, ↓zt_g23, ↓zt_g24, ↓zt_g25, ↓zt_g26, ↓zt_g27, ↓zt_g28, ↓zt_g29, ↓zt_g30, ↓zt_g31, ↓zt_g32, ↓zt_g33, ↓zt_g34, ↓zt_g35, ↓zt_g36, ↓zt_g37, ↓zt_g38, ↓zt_g39, ↓zt_g40, ↓zt_a1, ↓zt_a2, ↓zt_a3, ↓zt_a4, ↓zt_a5, ↓zt_a6, ↓zt_a7, ↓zt_a8, ↓zt_a9, ↓zt_a10, ↓zt_a11, ↓zt_a12, ↓zt_a13, ↓zt_a14, ↓zt_a15, ↓zt_a16, ↓zt_a17, ↓zt_a18, ↓zt_a19, ↓zt_a20, ↓zt_a21, ↓zt_l19, ↓zt_l17, forall_eq, ↓zqI_r, ↓zqL_r, ↓zqD_r, ↓zqF_r, ↓zqV_r, ↓zqR_r, ↓zqR_s, zboolb, zbool0, zbool1, true_and, and_true, zi_0, zj_0, zi_1, zj_1, zi_2, zj_2, zi_3, zj_3, zi_4, zj_4, zi_5, zj_5, zi_6, zj_6, zi_7, zj_7, zi_8, zj_8, zi_9, zj_9, zi_10, zj_10, true_and, and_true]
  exact ⟨fun ⟨h1, _, h2, h3⟩ => ⟨h1, h2, h3⟩, fun ⟨h1, h2, h3⟩ => ⟨h1, h1, h2, h3⟩⟩
theorem zl_184 {x : Int32} : zCall G (n + 1) 184 [.ref m, .int x] Q Y (zt_S σ m N M) ↔ vp_in x 1024 ∧ Q (some (.int (M.2.2.1 1 1 - M.2.2.1 5 x.toNatClampNeg))) (zt_S σ m N M) := by
  rw [zc_eq (by decide) (b := zb184) rfl]
  simp only [zb184, forall_eq, List.cons.injEq, Value.ref.injEq, Value.int.injEq, Value.long.injEq, and_true, and_assoc, true_and, va_rf_iff, va_rf_iff2, exists_and_left, exists_eq_left', exists_eq_left, ↓zt_rc, ↓zt_g0, ↓zt_g1, ↓zt_g2, ↓zt_g3, ↓zt_g4, ↓zt_g5, ↓zt_g6, ↓zt_g7, ↓zt_g8, ↓zt_g9, ↓zt_g10, ↓zt_g11, ↓zt_g12, ↓zt_g13, ↓zt_g14, ↓zt_g15, ↓zt_g16, ↓zt_g17, ↓zt_g18, ↓zt_g19, ↓zt_g20, ↓zt_g21, ↓zt_g22, ↓zt_g23, ↓zt_g24, ↓zt_g25, ↓zt_g26, ↓zt_g27, ↓zt_g28, ↓zt_g29, ↓zt_g30, ↓zt_g31, ↓zt_g32, ↓zt_g33, ↓zt_g34, ↓zt_g35, ↓zt_g36, ↓zt_g37, ↓zt_g38, ↓zt_g39, ↓zt_g40, ↓zt_a1, ↓zt_a2, ↓zt_a3, ↓zt_a4, ↓zt_a5, ↓zt_a6, ↓zt_a7, ↓zt_a8, ↓zt_a9, ↓zt_a10, ↓zt_a11, ↓zt_a12, ↓zt_a13, ↓zt_a14, ↓zt_a15, ↓zt_a16, ↓zt_a17, ↓zt_a18, ↓zt_a19, ↓zt_a20, ↓zt_a21, ↓zt_l19, ↓zt_l17, forall_eq, ↓zqI_r, ↓zqL_r, ↓zqD_r, ↓zqF_r, ↓zqV_r, ↓zqR_r, ↓zqR_s, zboolb, zbool0, zbool1, true_and, and_true, zi_0, zj_0, zi_1, zj_1, zi_2, zj_2, zi_3, zj_3, zi_4, zj_4, zi_5, zj_5, zi_6, zj_6, zi_7, zj_7, zi_8, zj_8, zi_9, zj_9, zi_10, zj_10, true_and, and_true]
theorem zl_190 {x : Int32} : zCall G (n + 1) 190 [.int x] Q Y s ↔ Q (some (.int (if x = 0 then 5 else 4))) s := by
  rw [zc_eq (by decide) (b := zb190) rfl]
  simp only [zb190, forall_eq, List.cons.injEq, Value.ref.injEq, Value.int.injEq, Value.long.injEq, and_true, and_assoc, true_and, va_rf_iff, va_rf_iff2, exists_and_left, exists_eq_left', exists_eq_left, zJ]
  by_cases h : x = 0
  · rw [if_pos h]
    simp [h]
  · rw [if_neg h]
    simp [h]
theorem zl_192 {x y : Int32} : zCall G (n + 1) 192 [.int x, .int y] Q Y s ↔ Q (some (.int ((51 + (if x = 0 then 5 else 0)) + y))) s := by
  rw [zc_eq (by decide) (b := zb192) rfl]
  simp only [zb192, forall_eq, List.cons.injEq, Value.ref.injEq, Value.int.injEq, Value.long.injEq, and_true, and_assoc, true_and, va_rf_iff, va_rf_iff2, exists_and_left, exists_eq_left', exists_eq_left, zJ]
  by_cases h : x = 0
  · rw [if_pos h]
    simp [h]
  · rw [if_neg h]
    simp [h]
theorem zl_189 {x : Int32} : zCall G (n + 2) 189 [.ref m, .int x] Q Y (zt_S σ m N M) ↔ Q (some (.int (M.2.2.1 1 (if x = 0 then 5 else 4)))) (zt_S σ m N M) := by
  rw [zc_eq (by decide) (b := zb189) rfl]
  simp only [zb189, forall_eq, List.cons.injEq, Value.ref.injEq, Value.int.injEq, Value.long.injEq, and_true, and_assoc, true_and, va_rf_iff, va_rf_iff2, exists_and_left, exists_eq_left', exists_eq_left, ↓zt_rc, ↓zt_g0, ↓zt_g1, ↓zt_g2, ↓zt_g3, ↓zt_g4, ↓zt_g5, ↓zt_g6, ↓zt_g7, ↓zt_g8, ↓zt_g9, ↓zt_g10, ↓zt_g11, ↓zt_g12, ↓zt_g13, ↓zt_g14, ↓zt_g15, ↓zt_g16, ↓zt_g17, ↓zt_g18, ↓zt_g19, ↓zt_g20, ↓zt_g21, ↓zt_g22, ↓zt_g23, ↓zt_g24, ↓zt_g25, ↓zt_g26, ↓zt_g27, ↓zt_g28, ↓zt_g29, ↓zt_g30, ↓zt_g31, ↓zt_g32, ↓zt_g33, ↓zt_g34, ↓zt_g35, ↓zt_g36, ↓zt_g37, ↓zt_g38, ↓zt_g39, ↓zt_g40, ↓zt_a1, ↓zt_a2, ↓zt_a3, ↓zt_a4, ↓zt_a5, ↓zt_a6, ↓zt_a7, ↓zt_a8, ↓zt_a9, ↓zt_a10, ↓zt_a11, ↓zt_a12, ↓zt_a13, ↓zt_a14, ↓zt_a15, ↓zt_a16, ↓zt_a17, ↓zt_a18, ↓zt_a19, ↓zt_a20, ↓zt_a21, ↓zt_l19, ↓zt_l17, forall_eq, ↓zqI_r, ↓zqL_r, ↓zqD_r, ↓zqF_r, ↓zqV_r, ↓zqR_r, ↓zqR_s, zboolb, zbool0, zbool1, true_and, and_true, zi_0, zj_0, zi_1, zj_1, zi_2, zj_2, zi_3, zj_3, zi_4, zj_4, zi_5, zj_5, zi_6, zj_6, zi_7, zj_7, zi_8, zj_8, zi_9, zj_9, zi_10, zj_10, true_and, and_true, ↓zl_190]
  by_cases h : x = 0
  · simp only [if_pos h, zi_0, zj_0, zi_1, zj_1, zi_2, zj_2, zi_3, zj_3, zi_4, zj_4, zi_5, zj_5, zi_6, zj_6, zi_7, zj_7, zi_8, zj_8, zi_9, zj_9, zi_10, zj_10, true_and, and_true, zboolb, zbool0, zbool1, true_and, and_true]
  · simp only [if_neg h, zi_0, zj_0, zi_1, zj_1, zi_2, zj_2, zi_3, zj_3, zi_4, zj_4, zi_5, zj_5, zi_6, zj_6, zi_7, zj_7, zi_8, zj_8, zi_9, zj_9, zi_10, zj_10, true_and, and_true, zboolb, zbool0, zbool1, true_and, and_true]
theorem zl_188 {x y : Int32} : zCall G (n + 3) 188 [.ref m, .int x, .int y] Q Y (zt_S σ m N M) ↔ Q (some (.int (zs_b (0 ≤ y ∧ y ≤ M.2.2.1 1 (if x = 0 then 5 else 4) - 1)))) (zt_S σ m N M) := by
  rw [zc_eq (by decide) (b := zb188) rfl]
  simp only [zb188, forall_eq, List.cons.injEq, Value.ref.injEq, Value.int.injEq, Value.long.injEq, and_true, and_assoc, true_and, va_rf_iff, va_rf_iff2, exists_and_left, exists_eq_left', exists_eq_left, ↓zt_rc, ↓zt_g0, ↓zt_g1, ↓zt_g2, ↓zt_g3, ↓zt_g4, ↓zt_g5, ↓zt_g6, ↓zt_g7, ↓zt_g8, ↓zt_g9, ↓zt_g10, ↓zt_g11, ↓zt_g12, ↓zt_g13, ↓zt_g14, ↓zt_g15, ↓zt_g16, ↓zt_g17, ↓zt_g18, ↓zt_g19, ↓zt_g20, ↓zt_g21, ↓zt_g22, ↓zt_g23, ↓zt_g24, ↓zt_g25, ↓zt_g26, ↓zt_g27, ↓zt_g28, ↓zt_g29, ↓zt_g30, ↓zt_g31, ↓zt_g32, ↓zt_g33, ↓zt_g34, ↓zt_g35, ↓zt_g36, ↓zt_g37, ↓zt_g38, ↓zt_g39, ↓zt_g40, ↓zt_a1, ↓zt_a2, ↓zt_a3, ↓zt_a4, ↓zt_a5, ↓zt_a6, ↓zt_a7, ↓zt_a8, ↓zt_a9, ↓zt_a10, ↓zt_a11, ↓zt_a12, ↓zt_a13, ↓zt_a14, ↓zt_a15, ↓zt_a16, ↓zt_a17, ↓zt_a18, ↓zt_a19, ↓zt_a20, ↓zt_a21, ↓zt_l19, ↓zt_l17, forall_eq, ↓zqI_r, ↓zqL_r, ↓zqD_r, ↓zqF_r, ↓zqV_r, ↓zqR_r, ↓zqR_s, zboolb, zbool0, zbool1, true_and, and_true, zi_0, zj_0, zi_1, zj_1, zi_2, zj_2, zi_3, zj_3, zi_4, zj_4, zi_5, zj_5, zi_6, zj_6, zi_7, zj_7, zi_8, zj_8, zi_9, zj_9, zi_10, zj_10, true_and, and_true, ↓zl_189, ↓zl_166]
theorem zl_191 {x y : Int32} : zCall G (n + 2) 191 [.ref m, .int x, .int y] Q Y (zt_S σ m N M) ↔ vp_in ((51 + (if x = 0 then 5 else 0)) + y) 61 ∧ Q (some (.int (M.2.2.1 1 ((51 + (if x = 0 then 5 else 0)) + y).toNatClampNeg))) (zt_S σ m N M) := by
  rw [zc_eq (by decide) (b := zb191) rfl]
  simp only [zb191, forall_eq, List.cons.injEq, Value.ref.injEq, Value.int.injEq, Value.long.injEq, and_true, and_assoc, true_and, va_rf_iff, va_rf_iff2, exists_and_left, exists_eq_left', exists_eq_left, ↓zt_rc, ↓zt_g0, ↓zt_g1, ↓zt_g2, ↓zt_g3, ↓zt_g4, ↓zt_g5, ↓zt_g6, ↓zt_g7, ↓zt_g8, ↓zt_g9, ↓zt_g10, ↓zt_g11, ↓zt_g12, ↓zt_g13, ↓zt_g14, ↓zt_g15, ↓zt_g16, ↓zt_g17, ↓zt_g18, ↓zt_g19, ↓zt_g20, ↓zt_g21, ↓zt_g22, ↓zt_g23, ↓zt_g24, ↓zt_g25, ↓zt_g26, ↓zt_g27, ↓zt_g28, ↓zt_g29, ↓zt_g30, ↓zt_g31, ↓zt_g32, ↓zt_g33, ↓zt_g34, ↓zt_g35, ↓zt_g36, ↓zt_g37, ↓zt_g38, ↓zt_g39, ↓zt_g40, ↓zt_a1, ↓zt_a2, ↓zt_a3, ↓zt_a4, ↓zt_a5, ↓zt_a6, ↓zt_a7, ↓zt_a8, ↓zt_a9, ↓zt_a10, ↓zt_a11, ↓zt_a12, ↓zt_a13, ↓zt_a14, ↓zt_a15, ↓zt_a16, ↓zt_a17, ↓zt_a18, ↓zt_a19, ↓zt_a20, ↓zt_a21, ↓zt_l19, ↓zt_l17, forall_eq, ↓zqI_r, ↓zqL_r, ↓zqD_r, ↓zqF_r, ↓zqV_r, ↓zqR_r, ↓zqR_s, zboolb, zbool0, zbool1, true_and, and_true, zi_0, zj_0, zi_1, zj_1, zi_2, zj_2, zi_3, zj_3, zi_4, zj_4, zi_5, zj_5, zi_6, zj_6, zi_7, zj_7, zi_8, zj_8, zi_9, zj_9, zi_10, zj_10, true_and, and_true, ↓zl_192]
theorem zl_203 {x y z : Int32} : zCall G (n + 1) 203 [.int x, .int y, .int z] Q Y s ↔ Q (some (.int (25 * (x - 1) + 5 * y + z))) s := by
  rw [zc_eq (by decide) (b := zb203) rfl]
  simp only [zb203, forall_eq, List.cons.injEq, Value.ref.injEq, Value.int.injEq, Value.long.injEq, and_true, and_assoc, true_and, va_rf_iff, va_rf_iff2, exists_and_left, exists_eq_left', exists_eq_left]
theorem zl_226 {x y z : Int32} : zCall G (n + 1) 226 [.int x, .int y, .int z] Q Y s ↔ Q (some (.int (4 * x + 2 * y + z))) s := by
  rw [zc_eq (by decide) (b := zb226) rfl]
  simp only [zb226, forall_eq, List.cons.injEq, Value.ref.injEq, Value.int.injEq, Value.long.injEq, and_true, and_assoc, true_and, va_rf_iff, va_rf_iff2, exists_and_left, exists_eq_left', exists_eq_left]
theorem zl_216 : zCall G (n + 1) 216 [.ref m] Q Y (zt_S σ m N M) ↔ Q (some (.int (M.2.2.1 1 6 ||| M.2.2.1 1 7))) (zt_S σ m N M) := by
  rw [zc_eq (by decide) (b := zb216) rfl]
  simp only [zb216, forall_eq, List.cons.injEq, Value.ref.injEq, Value.int.injEq, Value.long.injEq, and_true, and_assoc, true_and, va_rf_iff, va_rf_iff2, exists_and_left, exists_eq_left', exists_eq_left, ↓zt_rc, ↓zt_g0, ↓zt_g1, ↓zt_g2, ↓zt_g3, ↓zt_g4, ↓zt_g5, ↓zt_g6, ↓zt_g7, ↓zt_g8, ↓zt_g9, ↓zt_g10, ↓zt_g11, ↓zt_g12, ↓zt_g13, ↓zt_g14, ↓zt_g15, ↓zt_g16, ↓zt_g17, ↓zt_g18, ↓zt_g19, ↓zt_g20, ↓zt_g21, ↓zt_g22, ↓zt_g23, ↓zt_g24, ↓zt_g25, ↓zt_g26, ↓zt_g27, ↓zt_g28, ↓zt_g29, ↓zt_g30, ↓zt_g31, ↓zt_g32, ↓zt_g33, ↓zt_g34, ↓zt_g35, ↓zt_g36, ↓zt_g37, ↓zt_g38, ↓zt_g39, ↓zt_g40, ↓zt_a1, ↓zt_a2, ↓zt_a3, ↓zt_a4, ↓zt_a5, ↓zt_a6, ↓zt_a7, ↓zt_a8, ↓zt_a9, ↓zt_a10, ↓zt_a11, ↓zt_a12, ↓zt_a13, ↓zt_a14, ↓zt_a15, ↓zt_a16, ↓zt_a17, ↓zt_a18, ↓zt_a19, ↓zt_a20, ↓zt_a21, ↓zt_l19, ↓zt_l17, forall_eq, ↓zqI_r, ↓zqL_r, ↓zqD_r, ↓zqF_r, ↓zqV_r, ↓zqR_r, ↓zqR_s, zboolb, zbool0, zbool1, true_and, and_true, zi_0, zj_0, zi_1, zj_1, zi_2, zj_2, zi_3, zj_3, zi_4, zj_4, zi_5, zj_5, zi_6, zj_6, zi_7, zj_7, zi_8, zj_8, zi_9, zj_9, zi_10, zj_10, true_and, and_true]
theorem zl_255 {x : Int32} (hm : G.1 ≤ m) : zCall G (n + 1) 255 [.ref m, .int x] Q Y (zt_S σ m N M) ↔ vp_in (M.1 26) 20 ∧ Q none (zt_S σ m N ((M.sA 17 (va_up (M.2.2.1 17) (M.1 26).toNatClampNeg x)).sI 26 (M.1 26 + 1))) := by
  rw [zc_eq (by decide) (b := zb255) rfl]
  simp only [zb255, forall_eq, List.cons.injEq, Value.ref.injEq, Value.int.injEq, Value.long.injEq, and_true, and_assoc, true_and, va_rf_iff, va_rf_iff2, exists_and_left, exists_eq_left', exists_eq_left, ↓zt_rc, ↓zt_g0, ↓zt_g1, ↓zt_g2, ↓zt_g3, ↓zt_g4, ↓zt_g5, ↓zt_g6, ↓zt_g7, ↓zt_g8, ↓zt_g9, ↓zt_g10, ↓zt_g11, ↓zt_g12, ↓zt_g13, ↓zt_g14, ↓zt_g15, ↓zt_g16, ↓zt_g17, ↓zt_g18, ↓zt_g19, ↓zt_g20, ↓zt_g21, ↓zt_g22, ↓zt_g23, ↓zt_g24, ↓zt_g25, ↓zt_g26, ↓zt_g27, ↓zt_g28, ↓zt_g29, ↓zt_g30, ↓zt_g31, ↓zt_g32, ↓zt_g33, ↓zt_g34, ↓zt_g35, ↓zt_g36, ↓zt_g37, ↓zt_g38, ↓zt_g39, ↓zt_g40, ↓zt_p4 hm, ↓zt_p5 hm, ↓zt_p6 hm, ↓zt_p15 hm, ↓zt_p21 hm, ↓zt_p22 hm, ↓zt_p23 hm, ↓zt_p26 hm, ↓zt_p28 hm, ↓zt_p29 hm, ↓zt_p30 hm, ↓zt_p31 hm, ↓zt_p32 hm, ↓zt_p33 hm, ↓zt_p34 hm, ↓zt_p35 hm, ↓zt_p36 hm, ↓zt_p40 hm, ↓zt_p19 hm, ↓zt_p20 hm, ↓zt_a1, ↓zt_a2, ↓zt_a3, ↓zt_a4, ↓zt_a5, ↓zt_a6, ↓zt_a7, ↓zt_a8, ↓zt_a9, ↓zt_a10, ↓zt_a11, ↓zt_a12, ↓zt_a13, ↓zt_a14, ↓zt_a15, ↓zt_a16, ↓zt_a17, ↓zt_a18, ↓zt_a19, ↓zt_a20, ↓zt_a21, ↓zt_s1 hm, ↓zt_s2 hm, ↓zt_s3 hm, ↓zt_s4 hm, ↓zt_s5 hm, ↓zt_s6 hm, ↓zt_s7 hm, ↓zt_s8 hm, ↓zt_s9 hm, ↓zt_s10 hm, ↓zt_s11 hm, ↓zt_s12 hm, ↓zt_s16 hm, ↓zt_s17 hm, ↓zt_s18 hm, ↓zt_s20 hm, ↓zt_s13 hm, ↓zt_s14 hm, ↓zt_s15 hm, ↓zt_s21 hm, ↓zt_l19, ↓zt_l17, forall_eq, ↓zqI_r, ↓zqL_r, ↓zqD_r, ↓zqF_r, ↓zqV_r, ↓zqR_r, ↓zqR_s, zboolb, zbool0, zbool1, true_and, and_true, zi_0, zj_0, zi_1, zj_1, zi_2, zj_2, zi_3, zj_3, zi_4, zj_4, zi_5, zj_5, zi_6, zj_6, zi_7, zj_7, zi_8, zj_8, zi_9, zj_9, zi_10, zj_10, true_and, and_true]
end ZTL
