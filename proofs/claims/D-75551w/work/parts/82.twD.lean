/-! THE REFERENCE: determinants -/
def iL (z : Int) : Int64 := Int64.ofInt z
theorem iL_add (a b : Int) : iL a + iL b = iL (a + b) := (Int64.ofInt_add a b).symm
theorem iL_sub (a b : Int) : iL a - iL b = iL (a - b) := (Int64.ofInt_sub a b).symm
theorem iL_neg (a : Int) : -iL a = iL (-a) := (Int64.ofInt_neg a).symm
theorem iL_mul (a b : Int) : iL a * iL b = iL (a * b) := (Int64.ofInt_mul a b).symm
theorem iL_to {z : Int} (h1 : -9223372036854775808 ≤ z) (h2 : z < 9223372036854775808) : (iL z).toInt = z := by
  show (Int64.ofInt z).toInt = z
  rw [Int64.toInt_ofInt]
  exact fb_bmodL h1 h2
theorem iL_of (x : Int64) : iL x.toInt = x := Int64.ofInt_toInt x
theorem iL_eq {a b : Int} (h1 : -9223372036854775808 ≤ a) (h2 : a < 9223372036854775808) (h3 : -9223372036854775808 ≤ b) (h4 : b < 9223372036854775808) : iL a = iL b ↔ a = b := by rw [fa_eq64, iL_to h1 h2, iL_to h3 h4]
theorem iI_L {z : Int} (h1 : -2147483648 ≤ z) (h2 : z < 2147483648) : (iI z).toInt64 = iL z := by
  rw [fa_eq64, Int32.toInt_toInt64, iI_to h1 h2, iL_to (by omega) (by omega)]
theorem lc_0 (x : Int64) : lg_cmp x 0 = 0 ↔ x.toInt = 0 := by
  unfold lg_cmp
  simp only [gt_iff_lt, Int64.lt_iff_toInt_lt, ← Int64.toInt_inj]
  have e : (0 : Int64).toInt = 0 := rfl
  rw [e]
  by_cases h1 : 0 < x.toInt
  · rw [if_pos h1]
    exact ⟨fun h => absurd h (by decide), fun h => by omega⟩
  · rw [if_neg h1]
    by_cases h2 : x.toInt = 0
    · rw [if_pos h2]
      exact ⟨fun _ => h2, fun _ => rfl⟩
    · rw [if_neg h2]
      exact ⟨fun h => absurd h (by decide), fun h => absurd h h2⟩
theorem lc_le (x : Int64) : lg_cmp x 0 ≤ 0 ↔ x.toInt ≤ 0 := by
  unfold lg_cmp
  simp only [gt_iff_lt, Int64.lt_iff_toInt_lt, ← Int64.toInt_inj]
  have e : (0 : Int64).toInt = 0 := rfl
  rw [e]
  by_cases h1 : 0 < x.toInt
  · rw [if_pos h1]
    exact ⟨fun h => absurd h (by decide), fun h => by omega⟩
  · rw [if_neg h1]
    by_cases h2 : x.toInt = 0
    · rw [if_pos h2]
      exact ⟨fun _ => by omega, fun _ => by decide⟩
    · rw [if_neg h2]
      exact ⟨fun h => by omega, fun h => by decide⟩
theorem lc_ge (x : Int64) : 0 ≤ lg_cmp x 0 ↔ 0 ≤ x.toInt := by
  rw [lg_cmp_ge, fa_le64]
  exact Iff.rfl
theorem zx_par (k : Nat) (hk : k < 1000) : (nI k - nI k / 2 * 2 = 0) ↔ k % 2 = 0 := by
  have h : nI k - nI k / nI 2 * nI 2 = nI (k % 2) := fa_rem (k := 1) (by omega) (by omega)
  show nI k - nI k / nI 2 * nI 2 = nI 0 ↔ _
  rw [h, nI_eq (by omega) (by omega)]
theorem zx_mat {s r c : Nat} (h : 1 ≤ s) : (25 : Int32) * (nI s - 1) + (5 : Int32) * nI r + nI c = nI (25 * (s - 1) + 5 * r + c) := by
  have e : nI s - 1 = nI (s - 1) := zn_sub (b := 1) h
  rw [e]
  show nI 25 * nI (s - 1) + nI 5 * nI r + nI c = _
  rw [zn_mul, zn_mul, nI_add, nI_add]
theorem zx_mat0 (s r c : Nat) : (25 : Int32) * nI s + (5 : Int32) * nI r + nI c = nI (25 * s + 5 * r + c) := by
  show nI 25 * nI s + nI 5 * nI r + nI c = _
  rw [zn_mul, zn_mul, nI_add, nI_add]
section ZTD
variable {G : zPg} {n : Nat} {σ : zS} {m : Nat} {N : Nat → Option Nat} {M M0 : zt_M} {Q : zQ} {Y : zY} {V : zs_V}
theorem zt_sB2 {M : zt_M} {j : Nat} {f g : Nat → Int64} : (M.sB j f).sB j g = M.sB j g := by
  unfold zt_M.sB
  rw [zt_up2]
theorem zt_sB0 {M : zt_M} {j : Nat} : M.sB j (M.2.2.2 j) = M := by
  unfold zt_M.sB
  rw [zt_up0]
/-- a matrix of the size s is laid -/
def zt_mx (f : Nat → Int64) (s : Nat) (b : Nat → Nat → Int) : Prop := ∀ p q, p < s → q < s → f (25 * (s - 1) + 5 * p + q) = iL (b p q)
theorem zt_206 (hm : G.1 ≤ m) {f : Nat → Int64} {s o : Nat} (hs : 2 ≤ s) (hs5 : s ≤ 5) (ho : o < s) {b : Nat → Nat → Int} (hf : zt_mx f s b) (h : ∀ f', (∀ i, 25 * (s - 1) ≤ i → f' i = f i) → zt_mx f' (s - 1) (fun i j => b (i + 1) (zk_sk o j)) → Q none (zt_S σ m N (M.sB 13 f'))) : zCall G (n + 2) 206 [.ref m, .int (nI s), .int (nI o)] Q Y (zt_S σ m N (M.sB 13 f)) := by
  refine ze206 ⟨_, _, _, rfl, ?_⟩
  refine zf2 1 s (fun r s' => ∃ f', s' = zt_S σ m N (M.sB 13 f') ∧ (∀ i, 25 * (s - 1) ≤ i → f' i = f i) ∧ ∀ p q, p < r - 1 → q < s - 1 → f' (25 * (s - 1 - 1) + 5 * p + q) = iL (b (p + 1) (zk_sk o q))) (by omega) ?_ ?_ ⟨f, rfl, fun _ _ => rfl, fun p q hp => absurd hp (by omega)⟩
  · rintro rec r s' hr1 hr ⟨f', rfl, hk, hd⟩ hrec
    refine ⟨fun h9 => absurd h9 (nI_ge hr (by omega)), fun _ => ?_⟩
    refine zf3 0 s (fun c x s' => ∃ f', s' = zt_S σ m N (M.sB 13 f') ∧ x = nI (if o < c then c - 1 else c) ∧ (∀ i, 25 * (s - 1) ≤ i → f' i = f i) ∧ (∀ p q, p < r - 1 → q < s - 1 → f' (25 * (s - 1 - 1) + 5 * p + q) = iL (b (p + 1) (zk_sk o q))) ∧ ∀ q, q < (if o < c then c - 1 else c) → f' (25 * (s - 1 - 1) + 5 * (r - 1) + q) = iL (b r (zk_sk o q))) (by omega) ?_ ?_ ⟨f', rfl, rfl, hk, hd, fun q hq => absurd hq (by rw [if_neg (by omega)]; omega)⟩
    · rintro rec2 c x s' _ hc ⟨f2, rfl, rfl, hk2, hd2, hq2⟩ hrec2
      refine ⟨fun h9 => absurd h9 (nI_ge hc (by omega)), fun _ => ?_⟩
      have eco : nI c = nI o ↔ c = o := nI_eq (by omega) (by omega)
      have e1 : nI r - 1 = nI (r - 1) := zn_sub (b := 1) (by omega)
      have e0 : nI s - 1 = nI (s - 1) := zn_sub (b := 1) (by omega)
      simp only [↓zt_rc, ↓zt_g0, ↓zt_g1, ↓zt_g2, ↓zt_g3, ↓zt_g4, ↓zt_g5, ↓zt_g6, ↓zt_g7, ↓zt_g8, ↓zt_g9, ↓zt_g10, ↓zt_g11, ↓zt_g12, ↓zt_g13, ↓zt_g14, ↓zt_g15, ↓zt_g16, ↓zt_g17, ↓zt_g18, ↓zt_g19, ↓zt_g20, ↓zt_g21, ↓zt_g22, ↓zt_g23, ↓zt_g24, ↓zt_g25, ↓zt_g26, ↓zt_g27, ↓zt_g28, ↓zt_g29, ↓zt_g30, ↓zt_g31, ↓zt_g32, ↓zt_g33, ↓zt_g34, ↓zt_g35, ↓zt_g36, ↓zt_g37, ↓zt_g38, ↓zt_g39, ↓zt_g40, ↓zt_p4 hm, ↓zt_p5 hm, ↓zt_p6 hm, ↓zt_p15 hm, ↓zt_p21 hm, ↓zt_p22 hm, ↓zt_p23 hm, ↓zt_p26 hm, ↓zt_p28 hm, ↓zt_p29 hm, ↓zt_p30 hm, ↓zt_p31 hm, ↓zt_p32 hm, ↓zt_p33 hm, ↓zt_p34 hm, ↓zt_p35 hm, ↓zt_p36 hm, ↓zt_p40 hm, ↓zt_p19 hm, ↓zt_p20 hm, ↓zt_a1, ↓zt_a2, ↓zt_a3, ↓zt_a4, ↓zt_a5, ↓zt_a6, ↓zt_a7, ↓zt_a8, ↓zt_a9, ↓zt_a10, ↓zt_a11, ↓zt_a12, ↓zt_a13, ↓zt_a14, ↓zt_a15, ↓zt_a16, ↓zt_a17, ↓zt_a18, ↓zt_a19, ↓zt_a20, ↓zt_a21, ↓zt_s1 hm, ↓zt_s2 hm, ↓zt_s3 hm, ↓zt_s4 hm, ↓zt_s5 hm, ↓zt_s6 hm, ↓zt_s7 hm, ↓zt_s8 hm, ↓zt_s9 hm, ↓zt_s10 hm, ↓zt_s11 hm, ↓zt_s12 hm, ↓zt_s16 hm, ↓zt_s17 hm, ↓zt_s18 hm, ↓zt_s20 hm, ↓zt_s13 hm, ↓zt_s14 hm, ↓zt_s15 hm, ↓zt_s21 hm, ↓zt_l19, ↓zt_l17, forall_eq, ↓zqI_r, ↓zqL_r, ↓zqD_r, ↓zqF_r, ↓zqV_r, ↓zqR_r, ↓zqR_s, zboolb, zbool0, zbool1, true_and, and_true, zJ, ↓zl_203, eco]
      refine ⟨fun he => hrec2 _ _ ⟨f2, rfl, ?_, hk2, hd2, ?_⟩, fun hne => ?_⟩
      · rw [if_neg (by omega), if_pos (by omega)]
        exact congrArg nI (by omega)
      · rw [if_neg (by omega)] at hq2
        rw [if_pos (by omega)]
        intro q hq
        exact hq2 q (by omega)
      · have hT : (if o < c then c - 1 else c) < s - 1 := by
          by_cases h1 : o < c
          · rw [if_pos h1]; omega
          · rw [if_neg h1]; omega
        have hsk : zk_sk o (if o < c then c - 1 else c) = c := by
          unfold zk_sk
          by_cases h1 : o < c
          · rw [if_pos h1, if_neg (by omega)]; omega
          · rw [if_neg h1, if_pos (by omega)]
        have hT1 : (if o < c then c - 1 else c) + 1 = (if o < c + 1 then c + 1 - 1 else c + 1) := by
          by_cases h1 : o < c
          · rw [if_pos h1, if_pos (by omega)]; omega
          · rw [if_neg h1, if_neg (by omega)]
        have e00 : nI (s - 1) - 1 = nI (s - 1 - 1) := zn_sub (b := 1) (by omega)
        rw [e0, e1, e00, zx_mat0, zx_mat0]
        generalize hTe : (if o < c then c - 1 else c) = T at *
        have c1 : (nI (25 * (s - 1) + 5 * r + c)).toNatClampNeg = 25 * (s - 1) + 5 * r + c := nI_cl (by omega)
        have c2 : (nI (25 * (s - 1 - 1) + 5 * (r - 1) + T)).toNatClampNeg = 25 * (s - 1 - 1) + 5 * (r - 1) + T := nI_cl (by omega)
        rw [c1, c2]
        refine ⟨nI_i (by omega) (by omega), nI_i (by omega) (by omega), ?_⟩
        rw [zt_sB2]
        have ev : f2 (25 * (s - 1) + 5 * r + c) = iL (b r c) := by
          rw [hk2 _ (by omega)]
          exact hf r c (by omega) (by omega)
        simp only [va_up_self, ev]
        refine hrec2 _ _ ⟨_, rfl, ?_, ?_, ?_, ?_⟩
        · rw [← hT1, nI_1]
        · intro i hi
          rw [va_up_ne _ _ (by omega)]
          exact hk2 i hi
        · intro p q hp hq
          rw [va_up_ne _ _ (by omega)]
          exact hd2 p q hp hq
        · intro q hq
          rw [← hT1] at hq
          by_cases e : q = T
          · subst e
            rw [va_up_self, hsk]
          · rw [va_up_ne _ _ (by omega)]
            exact hq2 q (by omega)
    · rintro rec2 x s' ⟨f2, rfl, rfl, hk2, hd2, hq2⟩
      refine ⟨fun _ v hv => ?_, fun h9 => absurd (nI_le (Nat.le_refl _) (by omega)) h9⟩
      rw [hv]
      refine hrec _ ⟨f2, rfl, hk2, fun p q hp hq => ?_⟩
      by_cases e : p = r - 1
      · subst e
        rw [if_pos ho] at hq2
        rw [hq2 q hq, show r - 1 + 1 = r by omega]
      · exact hd2 p q (by omega) hq
  · rintro rec s' ⟨f', rfl, hk, hd⟩
    exact ⟨fun _ => h f' hk (fun p q hp hq => hd p q (by omega) hq), fun h9 => absurd (nI_le (Nat.le_refl _) (by omega)) h9⟩
theorem zt_205 (hm : G.1 ≤ m) : ∀ (s : Nat) {f : Nat → Int64} {b : Nat → Nat → Int} {Q : zQ} {n : Nat}, s ≤ 4 → zt_mx f s b → (∀ f', (∀ i, 25 * (s - 1) ≤ i → f' i = f i) → Q (some (.long (iL (zk_dt s b)))) (zt_S σ m N (M.sB 13 f'))) → zCall G (n + s + 2) 205 [.ref m, .int (nI s)] Q Y (zt_S σ m N (M.sB 13 f))
  | 0, f, b, Q, n, _, _, h => by
    refine ze205 ⟨_, _, rfl, ?_⟩
    exact ⟨fun h9 => absurd rfl h9, fun _ => h f (fun _ _ => rfl)⟩
  | 1, f, b, Q, n, _, hf, h => by
    refine ze205 ⟨_, _, rfl, ?_⟩
    refine ⟨fun _ => ⟨fun h9 => absurd rfl h9, fun _ => ?_⟩, fun h9 => absurd h9 (by decide)⟩
    simp only [↓zt_rc, ↓zt_g0, ↓zt_g1, ↓zt_g2, ↓zt_g3, ↓zt_g4, ↓zt_g5, ↓zt_g6, ↓zt_g7, ↓zt_g8, ↓zt_g9, ↓zt_g10, ↓zt_g11, ↓zt_g12, ↓zt_g13, ↓zt_g14, ↓zt_g15, ↓zt_g16, ↓zt_g17, ↓zt_g18, ↓zt_g19, ↓zt_g20, ↓zt_g21, ↓zt_g22, ↓zt_g23, ↓zt_g24, ↓zt_g25, ↓zt_g26, ↓zt_g27, ↓zt_g28, ↓zt_g29, ↓zt_g30, ↓zt_g31, ↓zt_g32, ↓zt_g33, ↓zt_g34, ↓zt_g35, ↓zt_g36, ↓zt_g37, ↓zt_g38, ↓zt_g39, ↓zt_g40, ↓zt_p4 hm, ↓zt_p5 hm, ↓zt_p6 hm, ↓zt_p15 hm, ↓zt_p21 hm, ↓zt_p22 hm, ↓zt_p23 hm, ↓zt_p26 hm, ↓zt_p28 hm, ↓zt_p29 hm, ↓zt_p30 hm, ↓zt_p31 hm, ↓zt_p32 hm, ↓zt_p33 hm, ↓zt_p34 hm, ↓zt_p35 hm, ↓zt_p36 hm, ↓zt_p40 hm, ↓zt_p19 hm, ↓zt_p20 hm, ↓zt_a1, ↓zt_a2, ↓zt_a3, ↓zt_a4, ↓zt_a5, ↓zt_a6, ↓zt_a7, ↓zt_a8, ↓zt_a9, ↓zt_a10, ↓zt_a11, ↓zt_a12, ↓zt_a13, ↓zt_a14, ↓zt_a15, ↓zt_a16, ↓zt_a17, ↓zt_a18, ↓zt_a19, ↓zt_a20, ↓zt_a21, ↓zt_s1 hm, ↓zt_s2 hm, ↓zt_s3 hm, ↓zt_s4 hm, ↓zt_s5 hm, ↓zt_s6 hm, ↓zt_s7 hm, ↓zt_s8 hm, ↓zt_s9 hm, ↓zt_s10 hm, ↓zt_s11 hm, ↓zt_s12 hm, ↓zt_s16 hm, ↓zt_s17 hm, ↓zt_s18 hm, ↓zt_s20 hm, ↓zt_s13 hm, ↓zt_s14 hm, ↓zt_s15 hm, ↓zt_s21 hm, ↓zt_l19, ↓zt_l17, forall_eq, ↓zqI_r, ↓zqL_r, ↓zqD_r, ↓zqF_r, ↓zqV_r, ↓zqR_r, ↓zqR_s, zboolb, zbool0, zbool1, true_and, and_true, ↓zl_203]
    have e : f 0 = iL (b 0 0) := hf 0 0 (by omega) (by omega)
    have hd : zk_dt 1 b = b 0 0 := by
      simp [zk_dt, fb_si, zk_sg]
    have h := h f (fun _ _ => rfl)
    rw [hd, ← e] at h
    exact ⟨nI_i (k := 0) (by omega) (by omega), h⟩
  | s + 2, f, b, Q, n, hs, hf, h => by
    refine ze205 ⟨_, _, rfl, ?_⟩
    have n0 : ¬ nI (s + 2) = 0 := nI_ne0 (by omega) (by omega)
    have n1 : ¬ nI (s + 2) = 1 := by
      show ¬ nI (s + 2) = nI 1
      rw [nI_eq (by omega) (by omega)]
      omega
    refine ⟨fun _ => ⟨fun _ => ?_, fun h9 => absurd h9 n1⟩, fun h9 => absurd h9 n0⟩
    refine zf3 0 (s + 2) (fun c x s' => ∃ f', s' = zt_S σ m N (M.sB 13 f') ∧ x = iL (fb_si (fun c => zk_sg c * b 0 c * zk_dt (s + 1) (fun i j => b (i + 1) (zk_sk c j))) c) ∧ ∀ i, 25 * (s + 2 - 1) ≤ i → f' i = f i) (by omega) ?_ ?_ ⟨f, rfl, rfl, fun _ _ => rfl⟩
    · rintro rec c x s' _ hc ⟨f', rfl, rfl, hk⟩ hrec
      refine ⟨fun h9 => absurd h9 (nI_ge hc (by omega)), fun _ => ?_⟩
      have ex : (25 : Int32) * (nI (s + 2) - 1) + 5 * 0 + nI c = nI (25 * (s + 2 - 1) + 5 * 0 + c) := zx_mat (s := s + 2) (r := 0) (c := c) (by omega)
      have c1 : (nI (25 * (s + 2 - 1) + 5 * 0 + c)).toNatClampNeg = 25 * (s + 2 - 1) + 5 * 0 + c := nI_cl (by omega)
      have ev : f' (25 * (s + 2 - 1) + 5 * 0 + c) = iL (b 0 c) := by
        rw [hk _ (by omega)]
        exact hf 0 c (by omega) hc
      have es : nI (s + 2) - 1 = nI (s + 1) := zn_sub (a := s + 2) (b := 1) (by omega)
      have hstep : fb_si (fun c => zk_sg c * b 0 c * zk_dt (s + 1) (fun i j => b (i + 1) (zk_sk c j))) (c + 1) = fb_si (fun c => zk_sg c * b 0 c * zk_dt (s + 1) (fun i j => b (i + 1) (zk_sk c j))) c + zk_sg c * b 0 c * zk_dt (s + 1) (fun i j => b (i + 1) (zk_sk c j)) := rfl
      simp only [↓zt_rc, ↓zt_g0, ↓zt_g1, ↓zt_g2, ↓zt_g3, ↓zt_g4, ↓zt_g5, ↓zt_g6, ↓zt_g7, ↓zt_g8, ↓zt_g9, ↓zt_g10, ↓zt_g11, ↓zt_g12, ↓zt_g13, ↓zt_g14, ↓zt_g15, ↓zt_g16, ↓zt_g17, ↓zt_g18, ↓zt_g19, ↓zt_g20, ↓zt_g21, ↓zt_g22, ↓zt_g23, ↓zt_g24, ↓zt_g25, ↓zt_g26, ↓zt_g27, ↓zt_g28, ↓zt_g29, ↓zt_g30, ↓zt_g31, ↓zt_g32, ↓zt_g33, ↓zt_g34, ↓zt_g35, ↓zt_g36, ↓zt_g37, ↓zt_g38, ↓zt_g39, ↓zt_g40, ↓zt_p4 hm, ↓zt_p5 hm, ↓zt_p6 hm, ↓zt_p15 hm, ↓zt_p21 hm, ↓zt_p22 hm, ↓zt_p23 hm, ↓zt_p26 hm, ↓zt_p28 hm, ↓zt_p29 hm, ↓zt_p30 hm, ↓zt_p31 hm, ↓zt_p32 hm, ↓zt_p33 hm, ↓zt_p34 hm, ↓zt_p35 hm, ↓zt_p36 hm, ↓zt_p40 hm, ↓zt_p19 hm, ↓zt_p20 hm, ↓zt_a1, ↓zt_a2, ↓zt_a3, ↓zt_a4, ↓zt_a5, ↓zt_a6, ↓zt_a7, ↓zt_a8, ↓zt_a9, ↓zt_a10, ↓zt_a11, ↓zt_a12, ↓zt_a13, ↓zt_a14, ↓zt_a15, ↓zt_a16, ↓zt_a17, ↓zt_a18, ↓zt_a19, ↓zt_a20, ↓zt_a21, ↓zt_s1 hm, ↓zt_s2 hm, ↓zt_s3 hm, ↓zt_s4 hm, ↓zt_s5 hm, ↓zt_s6 hm, ↓zt_s7 hm, ↓zt_s8 hm, ↓zt_s9 hm, ↓zt_s10 hm, ↓zt_s11 hm, ↓zt_s12 hm, ↓zt_s16 hm, ↓zt_s17 hm, ↓zt_s18 hm, ↓zt_s20 hm, ↓zt_s13 hm, ↓zt_s14 hm, ↓zt_s15 hm, ↓zt_s21 hm, ↓zt_l19, ↓zt_l17, forall_eq, ↓zqI_r, ↓zqL_r, ↓zqD_r, ↓zqF_r, ↓zqV_r, ↓zqR_r, ↓zqR_s, zboolb, zbool0, zbool1, true_and, and_true, zJ, ↓zl_203, ex, c1, va_up_self, ev, zx_par c (by omega), iL_neg]
      refine ⟨nI_i (by omega) (by omega), ?_⟩
      refine ⟨fun hz => hrec _ _ ⟨f', rfl, ?_, hk⟩, fun hz => ?_⟩
      · rw [lc_0] at hz
        have hz2 : iL (b 0 c) = 0 := by
          rw [fa_eq64, hz]
          rfl
        rw [hstep, ← iL_add]
        have : iL (zk_sg c * b 0 c * zk_dt (s + 1) (fun i j => b (i + 1) (zk_sk c j))) = 0 := by
          rw [← iL_mul, ← iL_mul, hz2]
          simp
        rw [this]
        simp
      · refine zt_206 hm (by omega) (by omega) hc (b := b) (f := f') (fun p q hp hq => ?_) (fun f2 hk2 hm2 => ?_)
        · rw [hk _ (by omega)]
          exact hf p q hp hq
        · simp only [↓zt_rc, ↓zt_g0, ↓zt_g1, ↓zt_g2, ↓zt_g3, ↓zt_g4, ↓zt_g5, ↓zt_g6, ↓zt_g7, ↓zt_g8, ↓zt_g9, ↓zt_g10, ↓zt_g11, ↓zt_g12, ↓zt_g13, ↓zt_g14, ↓zt_g15, ↓zt_g16, ↓zt_g17, ↓zt_g18, ↓zt_g19, ↓zt_g20, ↓zt_g21, ↓zt_g22, ↓zt_g23, ↓zt_g24, ↓zt_g25, ↓zt_g26, ↓zt_g27, ↓zt_g28, ↓zt_g29, ↓zt_g30, ↓zt_g31, ↓zt_g32, ↓zt_g33, ↓zt_g34, ↓zt_g35, ↓zt_g36, ↓zt_g37, ↓zt_g38, ↓zt_g39, ↓zt_g40, ↓zt_p4 hm, ↓zt_p5 hm, ↓zt_p6 hm, ↓zt_p15 hm, ↓zt_p21 hm, ↓zt_p22 hm, ↓zt_p23 hm, ↓zt_p26 hm, ↓zt_p28 hm, ↓zt_p29 hm, ↓zt_p30 hm, ↓zt_p31 hm, ↓zt_p32 hm, ↓zt_p33 hm, ↓zt_p34 hm, ↓zt_p35 hm, ↓zt_p36 hm, ↓zt_p40 hm, ↓zt_p19 hm, ↓zt_p20 hm, ↓zt_a1, ↓zt_a2, ↓zt_a3, ↓zt_a4, ↓zt_a5, ↓zt_a6, ↓zt_a7, ↓zt_a8, ↓zt_a9, ↓zt_a10, ↓zt_a11, ↓zt_a12, ↓zt_a13, ↓zt_a14, ↓zt_a15, ↓zt_a16, ↓zt_a17, ↓zt_a18, ↓zt_a19, ↓zt_a20, ↓zt_a21, ↓zt_s1 hm, ↓zt_s2 hm, ↓zt_s3 hm, ↓zt_s4 hm, ↓zt_s5 hm, ↓zt_s6 hm, ↓zt_s7 hm, ↓zt_s8 hm, ↓zt_s9 hm, ↓zt_s10 hm, ↓zt_s11 hm, ↓zt_s12 hm, ↓zt_s16 hm, ↓zt_s17 hm, ↓zt_s18 hm, ↓zt_s20 hm, ↓zt_s13 hm, ↓zt_s14 hm, ↓zt_s15 hm, ↓zt_s21 hm, ↓zt_l19, ↓zt_l17, forall_eq, ↓zqI_r, ↓zqL_r, ↓zqD_r, ↓zqF_r, ↓zqV_r, ↓zqR_r, ↓zqR_s, zboolb, zbool0, zbool1, true_and, and_true, es]
          have hm3 : zt_mx f2 (s + 1) (fun i j => b (i + 1) (zk_sk c j)) := hm2
          have fin : ∀ v : Int64, v = iL (zk_sg c * b 0 c) → zCall G (n + (s + 2) + 1) 205 [.ref m, .int (nI (s + 1))] (zqL (fun v41 s42 => rec (iL (fb_si (fun c => zk_sg c * b 0 c * zk_dt (s + 1) (fun i j => b (i + 1) (zk_sk c j))) c) + v * v41) (nI c + 1) s42)) Y (zt_S σ m N (M.sB 13 f2)) := by
            intro v hv
            have := zt_205 hm (s + 1) (f := f2) (b := fun i j => b (i + 1) (zk_sk c j)) (Q := zqL (fun v41 s42 => rec (iL (fb_si (fun c => zk_sg c * b 0 c * zk_dt (s + 1) (fun i j => b (i + 1) (zk_sk c j))) c) + v * v41) (nI c + 1) s42)) (n := n) (by omega) hm3 (fun f3 hk3 => ?_)
            · exact this
            · simp only [forall_eq, ↓zqI_r, ↓zqL_r, ↓zqD_r, ↓zqF_r, ↓zqV_r, ↓zqR_r, ↓zqR_s]
              refine hrec _ _ ⟨f3, rfl, ?_, fun i hi => ?_⟩
              · rw [hv, iL_mul, iL_add, hstep]
              · rw [hk3 i (by omega), hk2 i (by omega)]
                exact hk i hi
          refine ⟨by decide, fun hp => fin _ ?_, fun hp => fin _ ?_⟩
          · unfold zk_sg
            rw [if_neg hp]
            congr 1
            omega
          · unfold zk_sg
            rw [if_pos hp]
            congr 1
            omega
    · rintro rec x s' ⟨f', rfl, rfl, hk⟩
      exact ⟨fun _ => h f' hk, fun h9 => absurd (nI_le (Nat.le_refl _) (by omega)) h9⟩
end ZTD
