/-! THE REFERENCE: the game's outlook -/
section ZT5
variable {G : zPg} {n : Nat} {σ : zS} {m : Nat} {N : Nat → Option Nat} {M : zt_M} {Q : zQ} {Y : zY} {V : zs_V}
def zt_tb (V : zs_V) (M : zt_M) (s t pa : Nat) : Prop := M.2.2.1 16 (4 * s + 2 * t + pa) = iI (zs_O V s t pa)
theorem zx_ol (s t p : Nat) : (4 : Int32) * nI s + (2 : Int32) * nI t + nI p = nI (4 * s + 2 * t + p) := by
  show nI 4 * nI s + nI 2 * nI t + nI p = _
  rw [zn_mul, zn_mul, nI_add, nI_add]
theorem zx_t {t : Nat} (ht : t ≤ 1) : (1 : Int32) - nI t = nI (1 - t) := zn_sub (a := 1) ht
theorem zs_or_lt {V : zs_V} {s k : Nat} (hs : s < zs_all V) (hk : k < zs_n V) : s ||| 2 ^ k < zs_all V := Nat.or_lt_two_pow hs (Nat.pow_lt_pow_right (by omega) hk)
/-- what passing brings -/
theorem zt_228p (hV : zs_ok V) {s t pa : Nat} (hs : s < zs_all V) (ht : t ≤ 1) (hp : pa ≤ 1) (htb : pa = 0 → zt_tb V M s (1 - t) 1) (h : Q (some (.int (iI (if pa = 1 then 0 else zs_O V s (1 - t) 1)))) (zt_S σ m N M)) : zCall G (n + 2) 228 [.ref m, .int (nI s), .int (nI t), .int (nI pa), .int (-1)] Q Y (zt_S σ m N M) := by
  have hA := hV.all
  refine ze228 ⟨_, _, _, _, _, rfl, ?_⟩
  refine ⟨fun h9 => absurd rfl h9, fun _ => ?_⟩
  have e1 : nI pa = 1 ↔ pa = 1 := by
    show nI pa = nI 1 ↔ _
    rw [nI_eq (by omega) (by omega)]
  have ex : (4 : Int32) * nI s + (2 : Int32) * nI (1 - t) + 1 = nI (4 * s + 2 * (1 - t) + 1) := zx_ol s (1 - t) 1
  simp only [↓zt_rc, ↓zt_g0, ↓zt_g1, ↓zt_g2, ↓zt_g3, ↓zt_g4, ↓zt_g5, ↓zt_g6, ↓zt_g7, ↓zt_g8, ↓zt_g9, ↓zt_g10, ↓zt_g11, ↓zt_g12, ↓zt_g13, ↓zt_g14, ↓zt_g15, ↓zt_g16, ↓zt_g17, ↓zt_g18, ↓zt_g19, ↓zt_g20, ↓zt_g21, ↓zt_g22, ↓zt_g23, ↓zt_g24, ↓zt_g25, ↓zt_g26, ↓zt_g27, ↓zt_g28, ↓zt_g29, ↓zt_g30, ↓zt_g31, ↓zt_g32, ↓zt_g33, ↓zt_g34, ↓zt_g35, ↓zt_g36, ↓zt_g37, ↓zt_g38, ↓zt_g39, ↓zt_g40, ↓zt_a1, ↓zt_a2, ↓zt_a3, ↓zt_a4, ↓zt_a5, ↓zt_a6, ↓zt_a7, ↓zt_a8, ↓zt_a9, ↓zt_a10, ↓zt_a11, ↓zt_a12, ↓zt_a13, ↓zt_a14, ↓zt_a15, ↓zt_a16, ↓zt_a17, ↓zt_a18, ↓zt_a19, ↓zt_a20, ↓zt_a21, ↓zt_l19, ↓zt_l17, forall_eq, ↓zqI_r, ↓zqL_r, ↓zqD_r, ↓zqF_r, ↓zqV_r, ↓zqR_r, ↓zqR_s, zboolb, zbool0, zbool1, true_and, and_true, zJ, ↓zl_226, zx_t ht, ex, e1]
  refine ⟨fun h1 => ?_, fun h1 => ?_⟩
  · rw [if_neg h1] at h
    have := htb (by omega)
    unfold zt_tb at this
    rw [nI_cl (by omega), this]
    exact ⟨nI_i (by omega) (by omega), h⟩
  · rw [if_pos h1] at h
    exact h
theorem zt_228t (hM : M.2.2.1 1 = V) (hV : zs_ok V) {s t k : Nat} {x3 : Int32} (hs : s < zs_all V) (ht : t ≤ 1) (hk : k < zs_n V) (htb : zt_tb V M (s ||| 2 ^ k) (1 - t) 0) (h : Q (some (.int (iI (zs_gn V t k + zs_O V (s ||| 2 ^ k) (1 - t) 0)))) (zt_S σ m N M)) : zCall G (n + 2) 228 [.ref m, .int (nI s), .int (nI t), .int x3, .int (nI k)] Q Y (zt_S σ m N M) := by
  have hA := hV.all
  have hn := hV.n0
  have hlt := zs_or_lt hs hk
  refine ze228 ⟨_, _, _, _, _, rfl, ?_⟩
  have ek : ¬ nI k = (-1 : Int32) := by
    rw [fa_eq, nI_toInt (by omega)]
    show ¬ (k : Int) = -1
    omega
  have et : nI t = 0 ↔ t = 0 := by
    show nI t = nI 0 ↔ _
    rw [nI_eq (by omega) (by omega)]
  have eo : nI s ||| ((1 : Int32) <<< (nI k &&& 31)) = nI (s ||| 2 ^ k) := by
    rw [zn_shl _ (by omega), fa_or]
  have ex : (4 : Int32) * nI (s ||| 2 ^ k) + (2 : Int32) * nI (1 - t) + 0 = nI (4 * (s ||| 2 ^ k) + 2 * (1 - t) + 0) := zx_ol (s ||| 2 ^ k) (1 - t) 0
  unfold zt_tb at htb
  have hc : (nI (4 * (s ||| 2 ^ k) + 2 * (1 - t) + 0)).toNatClampNeg = 4 * (s ||| 2 ^ k) + 2 * (1 - t) + 0 := nI_cl (by omega)
  have hi : vp_in (nI (4 * (s ||| 2 ^ k) + 2 * (1 - t) + 0)) 4096 := nI_i (by omega) (by omega)
  refine ⟨fun _ => ?_, fun h9 => absurd h9 ek⟩
  simp only [↓zt_rc, ↓zt_g0, ↓zt_g1, ↓zt_g2, ↓zt_g3, ↓zt_g4, ↓zt_g5, ↓zt_g6, ↓zt_g7, ↓zt_g8, ↓zt_g9, ↓zt_g10, ↓zt_g11, ↓zt_g12, ↓zt_g13, ↓zt_g14, ↓zt_g15, ↓zt_g16, ↓zt_g17, ↓zt_g18, ↓zt_g19, ↓zt_g20, ↓zt_g21, ↓zt_g22, ↓zt_g23, ↓zt_g24, ↓zt_g25, ↓zt_g26, ↓zt_g27, ↓zt_g28, ↓zt_g29, ↓zt_g30, ↓zt_g31, ↓zt_g32, ↓zt_g33, ↓zt_g34, ↓zt_g35, ↓zt_g36, ↓zt_g37, ↓zt_g38, ↓zt_g39, ↓zt_g40, ↓zt_a1, ↓zt_a2, ↓zt_a3, ↓zt_a4, ↓zt_a5, ↓zt_a6, ↓zt_a7, ↓zt_a8, ↓zt_a9, ↓zt_a10, ↓zt_a11, ↓zt_a12, ↓zt_a13, ↓zt_a14, ↓zt_a15, ↓zt_a16, ↓zt_a17, ↓zt_a18, ↓zt_a19, ↓zt_a20, ↓zt_a21, ↓zt_l19, ↓zt_l17, forall_eq, ↓zqI_r, ↓zqL_r, ↓zqD_r, ↓zqF_r, ↓zqV_r, ↓zqR_r, ↓zqR_s, zboolb, zbool0, zbool1, true_and, and_true, zJ, ↓zl_226, zx_t ht, eo, ex, et, ↓zl_of1 hM hV hk, ↓zl_of3 hM hV hk, hc, htb, hi, iI_neg, iI_add]
  unfold zs_gn at h
  refine ⟨fun h1 => ?_, fun h1 => ?_⟩
  · rw [if_neg h1] at h
    exact h
  · rw [if_pos h1] at h
    exact h
theorem zl_229 {t : Nat} {a b : Int} (ht : t ≤ 1) (ha : -2000 ≤ a ∧ a ≤ 2000) (hb : -2000 ≤ b ∧ b ≤ 2000) {s : zS} : zCall G (n + 1) 229 [.ref m, .int (nI t), .int (iI a), .int (iI b)] Q Y s ↔ Q (some (.int (zs_b (if t = 0 then b < a else a < b)))) s := by
  have et : nI t = 0 ↔ t = 0 := by
    show nI t = nI 0 ↔ _
    rw [nI_eq (by omega) (by omega)]
  rw [zc_eq (by decide) (b := zb229) rfl]
  simp only [zb229, forall_eq, List.cons.injEq, Value.ref.injEq, Value.int.injEq, Value.long.injEq, and_true, and_assoc, true_and, va_rf_iff, va_rf_iff2, exists_and_left, exists_eq_left', exists_eq_left, zJ, zboolb, zbool0, zbool1, true_and, and_true, et]
  rw [iI_le (by omega) (by omega) (by omega) (by omega), iI_le (by omega) (by omega) (by omega) (by omega)]
  by_cases h0 : t = 0
  · subst h0
    simp only [if_true, not_true, false_implies, true_implies, true_and]
    by_cases h : b < a
    · rw [zs_bt h]
      exact ⟨fun h9 => h9.2 (by omega), fun h9 => ⟨fun h8 => absurd h8 (by omega), fun _ => h9⟩⟩
    · rw [zs_bf h]
      exact ⟨fun h9 => h9.1 (by omega), fun h9 => ⟨fun _ => h9, fun h8 => absurd h8 (by omega)⟩⟩
  · simp only [h0, if_false, not_false_eq_true, false_implies, true_implies, and_true]
    by_cases h : a < b
    · rw [zs_bt h]
      exact ⟨fun h9 => h9.2 (by omega), fun h9 => ⟨fun h8 => absurd h8 (by omega), fun _ => h9⟩⟩
    · rw [zs_bf h]
      exact ⟨fun h9 => h9.1 (by omega), fun h9 => ⟨fun _ => h9, fun h8 => absurd h8 (by omega)⟩⟩
theorem zt_227 (hM : M.2.2.1 1 = V) (hV : zs_ok V) (hl : zt_ly V M (zs_all V)) {s t pa : Nat} (hs : s < zs_all V) (ht : t ≤ 1) (hp : pa ≤ 1) (htb : pa = 0 → zt_tb V M s (1 - t) 1) (htb2 : ∀ k, k < zs_n V → s.testBit k = false → zt_tb V M (s ||| 2 ^ k) (1 - t) 0) (h : Q (some (.int (iI (zs_O V s t pa)))) (zt_S σ m N M)) : zCall G (n + 3) 227 [.ref m, .int (nI s), .int (nI t), .int (nI pa)] Q Y (zt_S σ m N M) := by
  have hA := hV.all
  have hn := hV.n0
  refine ze227 ⟨_, _, _, _, rfl, ?_⟩
  simp only [↓zt_rc, ↓zt_g0, ↓zt_g1, ↓zt_g2, ↓zt_g3, ↓zt_g4, ↓zt_g5, ↓zt_g6, ↓zt_g7, ↓zt_g8, ↓zt_g9, ↓zt_g10, ↓zt_g11, ↓zt_g12, ↓zt_g13, ↓zt_g14, ↓zt_g15, ↓zt_g16, ↓zt_g17, ↓zt_g18, ↓zt_g19, ↓zt_g20, ↓zt_g21, ↓zt_g22, ↓zt_g23, ↓zt_g24, ↓zt_g25, ↓zt_g26, ↓zt_g27, ↓zt_g28, ↓zt_g29, ↓zt_g30, ↓zt_g31, ↓zt_g32, ↓zt_g33, ↓zt_g34, ↓zt_g35, ↓zt_g36, ↓zt_g37, ↓zt_g38, ↓zt_g39, ↓zt_g40, ↓zt_a1, ↓zt_a2, ↓zt_a3, ↓zt_a4, ↓zt_a5, ↓zt_a6, ↓zt_a7, ↓zt_a8, ↓zt_a9, ↓zt_a10, ↓zt_a11, ↓zt_a12, ↓zt_a13, ↓zt_a14, ↓zt_a15, ↓zt_a16, ↓zt_a17, ↓zt_a18, ↓zt_a19, ↓zt_a20, ↓zt_a21, ↓zt_l19, ↓zt_l17, forall_eq, ↓zqI_r, ↓zqL_r, ↓zqD_r, ↓zqF_r, ↓zqV_r, ↓zqR_r, ↓zqR_s, zboolb, zbool0, zbool1, true_and, and_true]
  refine zt_220 hM hV hl hs ?_
  rw [zs_O_eq hV hp] at h
  simp only [↓zt_rc, ↓zt_g0, ↓zt_g1, ↓zt_g2, ↓zt_g3, ↓zt_g4, ↓zt_g5, ↓zt_g6, ↓zt_g7, ↓zt_g8, ↓zt_g9, ↓zt_g10, ↓zt_g11, ↓zt_g12, ↓zt_g13, ↓zt_g14, ↓zt_g15, ↓zt_g16, ↓zt_g17, ↓zt_g18, ↓zt_g19, ↓zt_g20, ↓zt_g21, ↓zt_g22, ↓zt_g23, ↓zt_g24, ↓zt_g25, ↓zt_g26, ↓zt_g27, ↓zt_g28, ↓zt_g29, ↓zt_g30, ↓zt_g31, ↓zt_g32, ↓zt_g33, ↓zt_g34, ↓zt_g35, ↓zt_g36, ↓zt_g37, ↓zt_g38, ↓zt_g39, ↓zt_g40, ↓zt_a1, ↓zt_a2, ↓zt_a3, ↓zt_a4, ↓zt_a5, ↓zt_a6, ↓zt_a7, ↓zt_a8, ↓zt_a9, ↓zt_a10, ↓zt_a11, ↓zt_a12, ↓zt_a13, ↓zt_a14, ↓zt_a15, ↓zt_a16, ↓zt_a17, ↓zt_a18, ↓zt_a19, ↓zt_a20, ↓zt_a21, ↓zt_l19, ↓zt_l17, forall_eq, ↓zqI_r, ↓zqL_r, ↓zqD_r, ↓zqF_r, ↓zqV_r, ↓zqR_r, ↓zqR_s, zboolb, zbool0, zbool1, true_and, and_true, zs_b0, Classical.not_not]
  refine ⟨fun hc => ?_, fun hc => ?_⟩
  · rw [if_pos hc] at h
    refine zt_228p hV hs ht hp htb ?_
    simp only [forall_eq, ↓zqI_r, ↓zqL_r, ↓zqD_r, ↓zqF_r, ↓zqV_r, ↓zqR_r, ↓zqR_s]
    refine zf3 0 (zs_n V) (fun k x s' => s' = zt_S σ m N M ∧ x = iI (zs_olf V (fun k => zs_gn V t k + zs_O V (s ||| 2 ^ k) (1 - t) 0) s t (if pa = 1 then 0 else zs_O V s (1 - t) 1) k)) (by omega) ?_ ?_ ⟨rfl, rfl⟩
    · rintro rec k x s' _ hk ⟨rfl, rfl⟩ hrec
      simp only [↓zt_rc, ↓zt_g0, ↓zt_g1, ↓zt_g2, ↓zt_g3, ↓zt_g4, ↓zt_g5, ↓zt_g6, ↓zt_g7, ↓zt_g8, ↓zt_g9, ↓zt_g10, ↓zt_g11, ↓zt_g12, ↓zt_g13, ↓zt_g14, ↓zt_g15, ↓zt_g16, ↓zt_g17, ↓zt_g18, ↓zt_g19, ↓zt_g20, ↓zt_g21, ↓zt_g22, ↓zt_g23, ↓zt_g24, ↓zt_g25, ↓zt_g26, ↓zt_g27, ↓zt_g28, ↓zt_g29, ↓zt_g30, ↓zt_g31, ↓zt_g32, ↓zt_g33, ↓zt_g34, ↓zt_g35, ↓zt_g36, ↓zt_g37, ↓zt_g38, ↓zt_g39, ↓zt_g40, ↓zt_a1, ↓zt_a2, ↓zt_a3, ↓zt_a4, ↓zt_a5, ↓zt_a6, ↓zt_a7, ↓zt_a8, ↓zt_a9, ↓zt_a10, ↓zt_a11, ↓zt_a12, ↓zt_a13, ↓zt_a14, ↓zt_a15, ↓zt_a16, ↓zt_a17, ↓zt_a18, ↓zt_a19, ↓zt_a20, ↓zt_a21, ↓zt_l19, ↓zt_l17, forall_eq, ↓zqI_r, ↓zqL_r, ↓zqD_r, ↓zqF_r, ↓zqV_r, ↓zqR_r, ↓zqR_s, zboolb, zbool0, zbool1, true_and, and_true, ↓zl_159, zJ, hM, hn.1]
      refine ⟨fun hle => absurd hle (nI_ge hk (by omega)), fun _ => zt_223 hM hV hl hs ht hk ?_⟩
      simp only [↓zt_rc, ↓zt_g0, ↓zt_g1, ↓zt_g2, ↓zt_g3, ↓zt_g4, ↓zt_g5, ↓zt_g6, ↓zt_g7, ↓zt_g8, ↓zt_g9, ↓zt_g10, ↓zt_g11, ↓zt_g12, ↓zt_g13, ↓zt_g14, ↓zt_g15, ↓zt_g16, ↓zt_g17, ↓zt_g18, ↓zt_g19, ↓zt_g20, ↓zt_g21, ↓zt_g22, ↓zt_g23, ↓zt_g24, ↓zt_g25, ↓zt_g26, ↓zt_g27, ↓zt_g28, ↓zt_g29, ↓zt_g30, ↓zt_g31, ↓zt_g32, ↓zt_g33, ↓zt_g34, ↓zt_g35, ↓zt_g36, ↓zt_g37, ↓zt_g38, ↓zt_g39, ↓zt_g40, ↓zt_a1, ↓zt_a2, ↓zt_a3, ↓zt_a4, ↓zt_a5, ↓zt_a6, ↓zt_a7, ↓zt_a8, ↓zt_a9, ↓zt_a10, ↓zt_a11, ↓zt_a12, ↓zt_a13, ↓zt_a14, ↓zt_a15, ↓zt_a16, ↓zt_a17, ↓zt_a18, ↓zt_a19, ↓zt_a20, ↓zt_a21, ↓zt_l19, ↓zt_l17, forall_eq, ↓zqI_r, ↓zqL_r, ↓zqD_r, ↓zqF_r, ↓zqV_r, ↓zqR_r, ↓zqR_s, zboolb, zbool0, zbool1, true_and, and_true, zs_b0, Classical.not_not]
      refine ⟨fun hmy => hrec _ _ ⟨rfl, ?_⟩, fun hmy => ?_⟩
      · simp only [zs_olf, if_neg hmy]
      · have hbit := zs_may_bit hmy
        refine zt_228t hM hV hs ht hk (htb2 k hk hbit) ?_
        have hg := zs_gn_b hV (t := t) hk
        have ho := zs_O_b hV (s ||| 2 ^ k) (1 - t) 0
        have hb0 : -1089 ≤ zs_olf V (fun k => zs_gn V t k + zs_O V (s ||| 2 ^ k) (1 - t) 0) s t (if pa = 1 then 0 else zs_O V s (1 - t) 1) k ∧ zs_olf V (fun k => zs_gn V t k + zs_O V (s ||| 2 ^ k) (1 - t) 0) s t (if pa = 1 then 0 else zs_O V s (1 - t) 1) k ≤ 1089 := by
          refine zs_olf_b ?_ (fun j hj hmj => ?_)
          · have := zs_O_b hV s (1 - t) 1
            by_cases h1 : pa = 1
            · rw [if_pos h1]; omega
            · rw [if_neg h1]; omega
          · have h1 := zs_gn_b hV (t := t) (k := j) (by omega)
            have h2 := zs_O_b hV (s ||| 2 ^ j) (1 - t) 0
            omega
        simp only [↓zt_rc, ↓zt_g0, ↓zt_g1, ↓zt_g2, ↓zt_g3, ↓zt_g4, ↓zt_g5, ↓zt_g6, ↓zt_g7, ↓zt_g8, ↓zt_g9, ↓zt_g10, ↓zt_g11, ↓zt_g12, ↓zt_g13, ↓zt_g14, ↓zt_g15, ↓zt_g16, ↓zt_g17, ↓zt_g18, ↓zt_g19, ↓zt_g20, ↓zt_g21, ↓zt_g22, ↓zt_g23, ↓zt_g24, ↓zt_g25, ↓zt_g26, ↓zt_g27, ↓zt_g28, ↓zt_g29, ↓zt_g30, ↓zt_g31, ↓zt_g32, ↓zt_g33, ↓zt_g34, ↓zt_g35, ↓zt_g36, ↓zt_g37, ↓zt_g38, ↓zt_g39, ↓zt_g40, ↓zt_a1, ↓zt_a2, ↓zt_a3, ↓zt_a4, ↓zt_a5, ↓zt_a6, ↓zt_a7, ↓zt_a8, ↓zt_a9, ↓zt_a10, ↓zt_a11, ↓zt_a12, ↓zt_a13, ↓zt_a14, ↓zt_a15, ↓zt_a16, ↓zt_a17, ↓zt_a18, ↓zt_a19, ↓zt_a20, ↓zt_a21, ↓zt_l19, ↓zt_l17, forall_eq, ↓zqI_r, ↓zqL_r, ↓zqD_r, ↓zqF_r, ↓zqV_r, ↓zqR_r, ↓zqR_s, zboolb, zbool0, zbool1, true_and, and_true, ↓zl_229 ht (a := zs_gn V t k + zs_O V (s ||| 2 ^ k) (1 - t) 0) (by omega) (b := zs_olf V (fun k => zs_gn V t k + zs_O V (s ||| 2 ^ k) (1 - t) 0) s t (if pa = 1 then 0 else zs_O V s (1 - t) 1) k) (by omega), zs_b0, Classical.not_not]
        refine ⟨fun h1 => hrec _ _ ⟨rfl, ?_⟩, fun h1 => hrec _ _ ⟨rfl, ?_⟩⟩
        · simp only [zs_olf, if_pos hmy]
          rw [if_neg h1]
        · simp only [zs_olf, if_pos hmy]
          rw [if_pos h1]
    · rintro rec x s' ⟨rfl, rfl⟩
      simp only [↓zt_rc, ↓zt_g0, ↓zt_g1, ↓zt_g2, ↓zt_g3, ↓zt_g4, ↓zt_g5, ↓zt_g6, ↓zt_g7, ↓zt_g8, ↓zt_g9, ↓zt_g10, ↓zt_g11, ↓zt_g12, ↓zt_g13, ↓zt_g14, ↓zt_g15, ↓zt_g16, ↓zt_g17, ↓zt_g18, ↓zt_g19, ↓zt_g20, ↓zt_g21, ↓zt_g22, ↓zt_g23, ↓zt_g24, ↓zt_g25, ↓zt_g26, ↓zt_g27, ↓zt_g28, ↓zt_g29, ↓zt_g30, ↓zt_g31, ↓zt_g32, ↓zt_g33, ↓zt_g34, ↓zt_g35, ↓zt_g36, ↓zt_g37, ↓zt_g38, ↓zt_g39, ↓zt_g40, ↓zt_a1, ↓zt_a2, ↓zt_a3, ↓zt_a4, ↓zt_a5, ↓zt_a6, ↓zt_a7, ↓zt_a8, ↓zt_a9, ↓zt_a10, ↓zt_a11, ↓zt_a12, ↓zt_a13, ↓zt_a14, ↓zt_a15, ↓zt_a16, ↓zt_a17, ↓zt_a18, ↓zt_a19, ↓zt_a20, ↓zt_a21, ↓zt_l19, ↓zt_l17, forall_eq, ↓zqI_r, ↓zqL_r, ↓zqD_r, ↓zqF_r, ↓zqV_r, ↓zqR_r, ↓zqR_s, zboolb, zbool0, zbool1, true_and, and_true, ↓zl_159, hM, hn.1]
      exact ⟨fun _ => h, fun hn => absurd (nI_le (Nat.le_refl _) (by omega)) hn⟩
  · rw [if_neg hc] at h
    exact h
theorem zt_225 (hm : G.1 ≤ m) (hM : M.2.2.1 1 = V) (hV : zs_ok V) (h : ∀ M', zt_kp 5 16 M M' → zt_ly V M' (zs_all V) → (∀ s t pa, s < zs_all V → t ≤ 1 → pa ≤ 1 → zt_tb V M' s t pa) → Q none (zt_S σ m N M')) : zCall G (n + 4) 225 [.ref m] Q Y (zt_S σ m N M) := by
  have hA := hV.all
  have hn := hV.n0
  refine ze225 ⟨_, rfl, ?_⟩
  simp only [↓zt_rc, ↓zt_g0, ↓zt_g1, ↓zt_g2, ↓zt_g3, ↓zt_g4, ↓zt_g5, ↓zt_g6, ↓zt_g7, ↓zt_g8, ↓zt_g9, ↓zt_g10, ↓zt_g11, ↓zt_g12, ↓zt_g13, ↓zt_g14, ↓zt_g15, ↓zt_g16, ↓zt_g17, ↓zt_g18, ↓zt_g19, ↓zt_g20, ↓zt_g21, ↓zt_g22, ↓zt_g23, ↓zt_g24, ↓zt_g25, ↓zt_g26, ↓zt_g27, ↓zt_g28, ↓zt_g29, ↓zt_g30, ↓zt_g31, ↓zt_g32, ↓zt_g33, ↓zt_g34, ↓zt_g35, ↓zt_g36, ↓zt_g37, ↓zt_g38, ↓zt_g39, ↓zt_g40, ↓zt_p4 hm, ↓zt_p5 hm, ↓zt_p6 hm, ↓zt_p15 hm, ↓zt_p21 hm, ↓zt_p22 hm, ↓zt_p23 hm, ↓zt_p26 hm, ↓zt_p28 hm, ↓zt_p29 hm, ↓zt_p30 hm, ↓zt_p31 hm, ↓zt_p32 hm, ↓zt_p33 hm, ↓zt_p34 hm, ↓zt_p35 hm, ↓zt_p36 hm, ↓zt_p40 hm, ↓zt_p19 hm, ↓zt_p20 hm, ↓zt_a1, ↓zt_a2, ↓zt_a3, ↓zt_a4, ↓zt_a5, ↓zt_a6, ↓zt_a7, ↓zt_a8, ↓zt_a9, ↓zt_a10, ↓zt_a11, ↓zt_a12, ↓zt_a13, ↓zt_a14, ↓zt_a15, ↓zt_a16, ↓zt_a17, ↓zt_a18, ↓zt_a19, ↓zt_a20, ↓zt_a21, ↓zt_s1 hm, ↓zt_s2 hm, ↓zt_s3 hm, ↓zt_s4 hm, ↓zt_s5 hm, ↓zt_s6 hm, ↓zt_s7 hm, ↓zt_s8 hm, ↓zt_s9 hm, ↓zt_s10 hm, ↓zt_s11 hm, ↓zt_s12 hm, ↓zt_s16 hm, ↓zt_s17 hm, ↓zt_s18 hm, ↓zt_s20 hm, ↓zt_s13 hm, ↓zt_s14 hm, ↓zt_s15 hm, ↓zt_s21 hm, ↓zt_l19, ↓zt_l17, forall_eq, ↓zqI_r, ↓zqL_r, ↓zqD_r, ↓zqF_r, ↓zqV_r, ↓zqR_r, ↓zqR_s, zboolb, zbool0, zbool1, true_and, and_true]
  refine zt_172 hm hM hV (fun M1 hk1 hl1 => ?_)
  have e1 : M1.2.2.1 1 = V := (hk1.2.2.2 1 (by omega)).trans hM
  have es : ((1 : Int32) <<< (V 0 &&& 31)) - 1 = iI ((zs_all V : Int) - 1) := by
    have e9 := zl_shl e1 hV
    rw [e1] at e9
    rw [e9]
    show iI (zs_all V) - iI 1 = _
    rw [iI_sub]
  simp only [↓zt_rc, ↓zt_g0, ↓zt_g1, ↓zt_g2, ↓zt_g3, ↓zt_g4, ↓zt_g5, ↓zt_g6, ↓zt_g7, ↓zt_g8, ↓zt_g9, ↓zt_g10, ↓zt_g11, ↓zt_g12, ↓zt_g13, ↓zt_g14, ↓zt_g15, ↓zt_g16, ↓zt_g17, ↓zt_g18, ↓zt_g19, ↓zt_g20, ↓zt_g21, ↓zt_g22, ↓zt_g23, ↓zt_g24, ↓zt_g25, ↓zt_g26, ↓zt_g27, ↓zt_g28, ↓zt_g29, ↓zt_g30, ↓zt_g31, ↓zt_g32, ↓zt_g33, ↓zt_g34, ↓zt_g35, ↓zt_g36, ↓zt_g37, ↓zt_g38, ↓zt_g39, ↓zt_g40, ↓zt_p4 hm, ↓zt_p5 hm, ↓zt_p6 hm, ↓zt_p15 hm, ↓zt_p21 hm, ↓zt_p22 hm, ↓zt_p23 hm, ↓zt_p26 hm, ↓zt_p28 hm, ↓zt_p29 hm, ↓zt_p30 hm, ↓zt_p31 hm, ↓zt_p32 hm, ↓zt_p33 hm, ↓zt_p34 hm, ↓zt_p35 hm, ↓zt_p36 hm, ↓zt_p40 hm, ↓zt_p19 hm, ↓zt_p20 hm, ↓zt_a1, ↓zt_a2, ↓zt_a3, ↓zt_a4, ↓zt_a5, ↓zt_a6, ↓zt_a7, ↓zt_a8, ↓zt_a9, ↓zt_a10, ↓zt_a11, ↓zt_a12, ↓zt_a13, ↓zt_a14, ↓zt_a15, ↓zt_a16, ↓zt_a17, ↓zt_a18, ↓zt_a19, ↓zt_a20, ↓zt_a21, ↓zt_s1 hm, ↓zt_s2 hm, ↓zt_s3 hm, ↓zt_s4 hm, ↓zt_s5 hm, ↓zt_s6 hm, ↓zt_s7 hm, ↓zt_s8 hm, ↓zt_s9 hm, ↓zt_s10 hm, ↓zt_s11 hm, ↓zt_s12 hm, ↓zt_s16 hm, ↓zt_s17 hm, ↓zt_s18 hm, ↓zt_s20 hm, ↓zt_s13 hm, ↓zt_s14 hm, ↓zt_s15 hm, ↓zt_s21 hm, ↓zt_l19, ↓zt_l17, forall_eq, ↓zqI_r, ↓zqL_r, ↓zqD_r, ↓zqF_r, ↓zqV_r, ↓zqR_r, ↓zqR_s, zboolb, zbool0, zbool1, true_and, and_true, ↓zl_159, e1, es]
  refine zfd2 (zs_all V) (fun k s' => ∃ M', s' = zt_S σ m N M' ∧ zt_kp 5 16 M M' ∧ zt_ly V M' (zs_all V) ∧ ∀ s t pa, k ≤ s → s < zs_all V → t ≤ 1 → pa ≤ 1 → zt_tb V M' s t pa) ?_ ?_ rfl ⟨M1, rfl, hk1.wide (by omega) (by omega), hl1, fun s t pa h1 h2 => absurd h2 (by omega)⟩
  · rintro rec k s' hk ⟨M', rfl, hkp, hl, htb⟩ hrec
    refine ⟨fun h9 => absurd h9 (nI_pos (by omega)), fun _ => ?_⟩
    refine zfd2 2 (fun j s' => ∃ M', s' = zt_S σ m N M' ∧ zt_kp 5 16 M M' ∧ zt_ly V M' (zs_all V) ∧ (∀ s t pa, k + 1 ≤ s → s < zs_all V → t ≤ 1 → pa ≤ 1 → zt_tb V M' s t pa) ∧ ∀ t pa, j ≤ pa → pa ≤ 1 → t ≤ 1 → zt_tb V M' k t pa) ?_ ?_ rfl ⟨M', rfl, hkp, hl, htb, fun t pa h1 h2 => absurd h1 (by omega)⟩
    · rintro rec2 j s' hj ⟨M2, rfl, hkp2, hl2, htb2, hj2⟩ hrec2
      refine ⟨fun h9 => absurd h9 (nI_pos (by omega)), fun _ => ?_⟩
      refine zf2 0 2 (fun i s' => ∃ M', s' = zt_S σ m N M' ∧ zt_kp 5 16 M M' ∧ zt_ly V M' (zs_all V) ∧ (∀ s t pa, k + 1 ≤ s → s < zs_all V → t ≤ 1 → pa ≤ 1 → zt_tb V M' s t pa) ∧ (∀ t pa, j + 1 ≤ pa → pa ≤ 1 → t ≤ 1 → zt_tb V M' k t pa) ∧ ∀ t, t < i → zt_tb V M' k t j) (by omega) ?_ ?_ ⟨M2, rfl, hkp2, hl2, htb2, hj2, fun t h1 => absurd h1 (by omega)⟩
      · rintro rec3 i s' _ hi ⟨M3, rfl, hkp3, hl3, htb3, hj3, hi3⟩ hrec3
        have e3 : M3.2.2.1 1 = V := (hkp3.2.2.2 1 (by omega)).trans hM
        refine ⟨fun h9 => absurd h9 (nI_ge (b := 2) hi (by omega)), fun _ => ?_⟩
        have hx := zx_ol k i j
        have hc : (nI (4 * k + 2 * i + j)).toNatClampNeg = 4 * k + 2 * i + j := nI_cl (by omega)
        simp only [↓zt_rc, ↓zt_g0, ↓zt_g1, ↓zt_g2, ↓zt_g3, ↓zt_g4, ↓zt_g5, ↓zt_g6, ↓zt_g7, ↓zt_g8, ↓zt_g9, ↓zt_g10, ↓zt_g11, ↓zt_g12, ↓zt_g13, ↓zt_g14, ↓zt_g15, ↓zt_g16, ↓zt_g17, ↓zt_g18, ↓zt_g19, ↓zt_g20, ↓zt_g21, ↓zt_g22, ↓zt_g23, ↓zt_g24, ↓zt_g25, ↓zt_g26, ↓zt_g27, ↓zt_g28, ↓zt_g29, ↓zt_g30, ↓zt_g31, ↓zt_g32, ↓zt_g33, ↓zt_g34, ↓zt_g35, ↓zt_g36, ↓zt_g37, ↓zt_g38, ↓zt_g39, ↓zt_g40, ↓zt_p4 hm, ↓zt_p5 hm, ↓zt_p6 hm, ↓zt_p15 hm, ↓zt_p21 hm, ↓zt_p22 hm, ↓zt_p23 hm, ↓zt_p26 hm, ↓zt_p28 hm, ↓zt_p29 hm, ↓zt_p30 hm, ↓zt_p31 hm, ↓zt_p32 hm, ↓zt_p33 hm, ↓zt_p34 hm, ↓zt_p35 hm, ↓zt_p36 hm, ↓zt_p40 hm, ↓zt_p19 hm, ↓zt_p20 hm, ↓zt_a1, ↓zt_a2, ↓zt_a3, ↓zt_a4, ↓zt_a5, ↓zt_a6, ↓zt_a7, ↓zt_a8, ↓zt_a9, ↓zt_a10, ↓zt_a11, ↓zt_a12, ↓zt_a13, ↓zt_a14, ↓zt_a15, ↓zt_a16, ↓zt_a17, ↓zt_a18, ↓zt_a19, ↓zt_a20, ↓zt_a21, ↓zt_s1 hm, ↓zt_s2 hm, ↓zt_s3 hm, ↓zt_s4 hm, ↓zt_s5 hm, ↓zt_s6 hm, ↓zt_s7 hm, ↓zt_s8 hm, ↓zt_s9 hm, ↓zt_s10 hm, ↓zt_s11 hm, ↓zt_s12 hm, ↓zt_s16 hm, ↓zt_s17 hm, ↓zt_s18 hm, ↓zt_s20 hm, ↓zt_s13 hm, ↓zt_s14 hm, ↓zt_s15 hm, ↓zt_s21 hm, ↓zt_l19, ↓zt_l17, forall_eq, ↓zqI_r, ↓zqL_r, ↓zqD_r, ↓zqF_r, ↓zqV_r, ↓zqR_r, ↓zqR_s, zboolb, zbool0, zbool1, true_and, and_true, ↓zl_226, hx]
        refine zt_227 e3 hV hl3 hk (by omega) (by omega) (fun h9 => hj3 (1 - i) 1 (by omega) (by omega) (by omega)) (fun q hq hb => ?_) ?_
        · have hlt := zs_or_lt hk hq
          have hgt : k < k ||| 2 ^ q := by
            have h1 : k ≤ k ||| 2 ^ q := Nat.left_le_or
            have h2 : k ≠ k ||| 2 ^ q := by
              intro e
              have h3 := fb_bit_set k q q
              rw [← e, hb] at h3
              simp at h3
            omega
          exact htb3 _ _ _ (by omega) hlt (by omega) (by omega)
        · simp only [↓zt_rc, ↓zt_g0, ↓zt_g1, ↓zt_g2, ↓zt_g3, ↓zt_g4, ↓zt_g5, ↓zt_g6, ↓zt_g7, ↓zt_g8, ↓zt_g9, ↓zt_g10, ↓zt_g11, ↓zt_g12, ↓zt_g13, ↓zt_g14, ↓zt_g15, ↓zt_g16, ↓zt_g17, ↓zt_g18, ↓zt_g19, ↓zt_g20, ↓zt_g21, ↓zt_g22, ↓zt_g23, ↓zt_g24, ↓zt_g25, ↓zt_g26, ↓zt_g27, ↓zt_g28, ↓zt_g29, ↓zt_g30, ↓zt_g31, ↓zt_g32, ↓zt_g33, ↓zt_g34, ↓zt_g35, ↓zt_g36, ↓zt_g37, ↓zt_g38, ↓zt_g39, ↓zt_g40, ↓zt_p4 hm, ↓zt_p5 hm, ↓zt_p6 hm, ↓zt_p15 hm, ↓zt_p21 hm, ↓zt_p22 hm, ↓zt_p23 hm, ↓zt_p26 hm, ↓zt_p28 hm, ↓zt_p29 hm, ↓zt_p30 hm, ↓zt_p31 hm, ↓zt_p32 hm, ↓zt_p33 hm, ↓zt_p34 hm, ↓zt_p35 hm, ↓zt_p36 hm, ↓zt_p40 hm, ↓zt_p19 hm, ↓zt_p20 hm, ↓zt_a1, ↓zt_a2, ↓zt_a3, ↓zt_a4, ↓zt_a5, ↓zt_a6, ↓zt_a7, ↓zt_a8, ↓zt_a9, ↓zt_a10, ↓zt_a11, ↓zt_a12, ↓zt_a13, ↓zt_a14, ↓zt_a15, ↓zt_a16, ↓zt_a17, ↓zt_a18, ↓zt_a19, ↓zt_a20, ↓zt_a21, ↓zt_s1 hm, ↓zt_s2 hm, ↓zt_s3 hm, ↓zt_s4 hm, ↓zt_s5 hm, ↓zt_s6 hm, ↓zt_s7 hm, ↓zt_s8 hm, ↓zt_s9 hm, ↓zt_s10 hm, ↓zt_s11 hm, ↓zt_s12 hm, ↓zt_s16 hm, ↓zt_s17 hm, ↓zt_s18 hm, ↓zt_s20 hm, ↓zt_s13 hm, ↓zt_s14 hm, ↓zt_s15 hm, ↓zt_s21 hm, ↓zt_l19, ↓zt_l17, forall_eq, ↓zqI_r, ↓zqL_r, ↓zqD_r, ↓zqF_r, ↓zqV_r, ↓zqR_r, ↓zqR_s, zboolb, zbool0, zbool1, true_and, and_true, hc]
          refine ⟨nI_i (by omega) (by omega), hrec3 _ ⟨_, rfl, hkp3.trans (zt_kp.set (by omega) (by omega)), ?_, ?_, ?_, ?_⟩⟩
          · intro f hf s hs
            rw [← hl3 f hf s hs]
            exact congrFun (va_up_ne _ _ (by omega)) s
          · intro s t pa h1 h2 h3 h4
            have := htb3 s t pa h1 h2 h3 h4
            unfold zt_tb at this ⊢
            show va_up (M3.2.2.1 16) (4 * k + 2 * i + j) _ (4 * s + 2 * t + pa) = _
            rw [va_up_ne _ _ (by omega), this]
          · intro t pa h1 h2 h3
            have := hj3 t pa h1 h2 h3
            unfold zt_tb at this ⊢
            show va_up (M3.2.2.1 16) (4 * k + 2 * i + j) _ (4 * k + 2 * t + pa) = _
            rw [va_up_ne _ _ (by omega), this]
          · intro t h1
            unfold zt_tb
            show va_up (M3.2.2.1 16) (4 * k + 2 * i + j) _ (4 * k + 2 * t + j) = _
            by_cases e : t = i
            · subst e
              rw [va_up_self]
            · rw [va_up_ne _ _ (by omega)]
              exact hi3 t (by omega)
      · rintro rec3 s' ⟨M3, rfl, hkp3, hl3, htb3, hj3, hi3⟩
        refine ⟨fun _ => ?_, fun h9 => absurd (nI_le (Nat.le_refl 2) (by omega)) h9⟩
        refine hrec2 _ ⟨M3, rfl, hkp3, hl3, htb3, fun t pa h1 h2 h3 => ?_⟩
        by_cases e : pa = j
        · subst e
          exact hi3 t (by omega)
        · exact hj3 t pa (by omega) h2 h3
    · rintro rec2 s' ⟨M2, rfl, hkp2, hl2, htb2, hj2⟩
      refine ⟨fun _ => ?_, fun h9 => absurd (by decide) h9⟩
      refine hrec _ ⟨M2, rfl, hkp2, hl2, fun s t pa h1 h2 h3 h4 => ?_⟩
      by_cases e : s = k
      · subst e
        exact hj2 t pa (by omega) h4 h3
      · exact htb2 s t pa (by omega) h2 h3 h4
  · rintro rec s' ⟨M', rfl, hkp, hl, htb⟩
    exact ⟨fun _ => h M' hkp hl (fun s t pa h2 h3 h4 => htb s t pa (by omega) h2 h3 h4), fun h9 => absurd (by decide) h9⟩
end ZT5
