/-! THE REFERENCE: sums, plans, replies -/
theorem zx_item (q f : Nat) : (11 : Int32) + (4 : Int32) * nI q + nI f = nI (11 + 4 * q + f) := by
  show nI 11 + nI 4 * nI q + nI f = _
  rw [zn_mul, nI_add, nI_add]
section ZT1
variable {G : zPg} {n : Nat} {σ : zS} {m : Nat} {N : Nat → Option Nat} {M : zt_M} {Q : zQ} {Y : zY} {V : zs_V}
theorem zt_aj {j : Nat} (hj : j = 1 ∨ j = 2) {i : Int32} {K : Int32 → Prop} : zaI (zt_S σ m N M) 0 (some (m + j)) i K ↔ vp_in i 61 ∧ K (M.2.2.1 j i.toNatClampNeg) := by
  rcases hj with e | e <;> subst e
  · exact zt_a1
  · exact zt_a2
theorem zt_162 {j : Nat} (hj : j = 1 ∨ j = 2) (hM : M.2.2.1 j = V) {k f s : Nat} (h0 : V 0 = nI k) (hk : k ≤ 10) (hs : s < 2147483648) (hf : f ≤ 3) (h : Q (some (.int (iI (zs_sm V f s k)))) (zt_S σ m N M)) : zCall G (n + 1) 162 [va_rf (some (m + j)), .int (nI s), .int (nI f)] Q Y (zt_S σ m N M) := by
  refine ze162 ⟨_, _, _, rfl, ?_⟩
  refine zf3 0 k (fun q x s' => s' = zt_S σ m N M ∧ x = iI (zs_sm V f s q)) (by omega) ?_ ?_ ⟨rfl, rfl⟩
  · rintro rec q x s' _ hq ⟨rfl, rfl⟩ hrec
    simp only [↓zt_aj hj, zi_0, zj_0, zi_1, zj_1, zi_2, zj_2, zi_3, zj_3, zi_4, zj_4, zi_5, zj_5, zi_6, zj_6, zi_7, zj_7, zi_8, zj_8, zi_9, zj_9, zi_10, zj_10, true_and, and_true, forall_eq, ↓zqI_r, ↓zqL_r, ↓zqD_r, ↓zqF_r, ↓zqV_r, ↓zqR_r, ↓zqR_s, hM, h0, zJ, zx_item]
    refine ⟨fun hle => absurd hle (nI_ge hq (by omega)), fun _ => ⟨fun hb => hrec _ _ ⟨rfl, ?_⟩, fun hb => ?_⟩⟩
    · rw [zn_bit hs (by omega)] at hb
      simp only [zs_sm, if_neg hb]
      show iI _ + iI 0 = _
      rw [iI_add]
    · rw [zn_bit hs (by omega)] at hb
      rw [nI_cl (by omega)]
      refine ⟨nI_i (by omega) (by omega), hrec _ _ ⟨rfl, ?_⟩⟩
      simp only [zs_sm, if_pos hb, zs_p]
      rw [← iI_add, iI_of]
  · rintro rec x s' ⟨rfl, rfl⟩
    simp only [↓zt_aj hj, zi_0, zj_0, zi_1, zj_1, zi_2, zj_2, zi_3, zj_3, zi_4, zj_4, zi_5, zj_5, zi_6, zj_6, zi_7, zj_7, zi_8, zj_8, zi_9, zj_9, zi_10, zj_10, true_and, and_true, hM, h0]
    exact ⟨fun _ => h, fun hn => absurd (nI_le (Nat.le_refl _) (by omega)) hn⟩
theorem zt_161 (hM : M.2.2.1 1 = V) (hV : zs_ok V) {f s : Nat} (hs : s < 2147483648) (hf : f ≤ 3) (h : Q (some (.int (iI (zs_w V f s)))) (zt_S σ m N M)) : zCall G (n + 2) 161 [.ref m, .int (nI s), .int (nI f)] Q Y (zt_S σ m N M) := by
  refine ze161 ⟨_, _, _, rfl, ?_⟩
  simp only [↓zt_rc, ↓zt_g0, ↓zt_g1, ↓zt_g2, ↓zt_g3, ↓zt_g4, ↓zt_g5, ↓zt_g6, ↓zt_g7, ↓zt_g8, ↓zt_g9, ↓zt_g10, ↓zt_g11, ↓zt_g12, ↓zt_g13, ↓zt_g14, ↓zt_g15, ↓zt_g16, ↓zt_g17, ↓zt_g18, ↓zt_g19, ↓zt_g20, ↓zt_g21, ↓zt_g22, ↓zt_g23, ↓zt_g24, ↓zt_g25, ↓zt_g26, ↓zt_g27, ↓zt_g28, ↓zt_g29, ↓zt_g30, ↓zt_g31, ↓zt_g32, ↓zt_g33, ↓zt_g34, ↓zt_g35, ↓zt_g36, ↓zt_g37, ↓zt_g38, ↓zt_g39, ↓zt_g40, ↓zt_a1, ↓zt_a2, ↓zt_a3, ↓zt_a4, ↓zt_a5, ↓zt_a6, ↓zt_a7, ↓zt_a8, ↓zt_a9, ↓zt_a10, ↓zt_a11, ↓zt_a12, ↓zt_a13, ↓zt_a14, ↓zt_a15, ↓zt_a16, ↓zt_a17, ↓zt_a18, ↓zt_a19, ↓zt_a20, ↓zt_a21, ↓zt_l19, ↓zt_l17, forall_eq, ↓zqI_r, ↓zqL_r, ↓zqD_r, ↓zqF_r, ↓zqV_r, ↓zqR_r, ↓zqR_s, zboolb, zbool0, zbool1, true_and, and_true]
  refine zt_162 (Or.inl rfl) hM hV.n0.1 hV.n0.2 hs hf ?_
  simp only [forall_eq, ↓zqI_r, ↓zqL_r, ↓zqD_r, ↓zqF_r, ↓zqV_r, ↓zqR_r, ↓zqR_s]
  exact h
theorem zs_c1 (V : zs_V) : V 1 = iI (zs_cap V) := (iI_of _).symm
theorem zs_c2 (V : zs_V) : V 2 = iI (zs_thr V) := (iI_of _).symm
theorem zt_160 (hM : M.2.2.1 1 = V) (hV : zs_ok V) {s : Nat} (hs : s < 2147483648) (h : Q (some (.int (iI (zs_cap V - zs_w V 0 s)))) (zt_S σ m N M)) : zCall G (n + 3) 160 [.ref m, .int (nI s)] Q Y (zt_S σ m N M) := by
  refine ze160 ⟨_, _, rfl, ?_⟩
  simp only [↓zt_rc, ↓zt_g0, ↓zt_g1, ↓zt_g2, ↓zt_g3, ↓zt_g4, ↓zt_g5, ↓zt_g6, ↓zt_g7, ↓zt_g8, ↓zt_g9, ↓zt_g10, ↓zt_g11, ↓zt_g12, ↓zt_g13, ↓zt_g14, ↓zt_g15, ↓zt_g16, ↓zt_g17, ↓zt_g18, ↓zt_g19, ↓zt_g20, ↓zt_g21, ↓zt_g22, ↓zt_g23, ↓zt_g24, ↓zt_g25, ↓zt_g26, ↓zt_g27, ↓zt_g28, ↓zt_g29, ↓zt_g30, ↓zt_g31, ↓zt_g32, ↓zt_g33, ↓zt_g34, ↓zt_g35, ↓zt_g36, ↓zt_g37, ↓zt_g38, ↓zt_g39, ↓zt_g40, ↓zt_a1, ↓zt_a2, ↓zt_a3, ↓zt_a4, ↓zt_a5, ↓zt_a6, ↓zt_a7, ↓zt_a8, ↓zt_a9, ↓zt_a10, ↓zt_a11, ↓zt_a12, ↓zt_a13, ↓zt_a14, ↓zt_a15, ↓zt_a16, ↓zt_a17, ↓zt_a18, ↓zt_a19, ↓zt_a20, ↓zt_a21, ↓zt_l19, ↓zt_l17, forall_eq, ↓zqI_r, ↓zqL_r, ↓zqD_r, ↓zqF_r, ↓zqV_r, ↓zqR_r, ↓zqR_s, zboolb, zbool0, zbool1, true_and, and_true, zi_0, zj_0, zi_1, zj_1, zi_2, zj_2, zi_3, zj_3, zi_4, zj_4, zi_5, zj_5, zi_6, zj_6, zi_7, zj_7, zi_8, zj_8, zi_9, zj_9, zi_10, zj_10, true_and, and_true]
  refine zt_161 hM hV hs (f := 0) (by omega) ?_
  simp only [forall_eq, ↓zqI_r, ↓zqL_r, ↓zqD_r, ↓zqF_r, ↓zqV_r, ↓zqR_r, ↓zqR_s, hM]
  rw [zs_c1 V, iI_sub]
  exact h
theorem zt_169 (hM : M.2.2.1 1 = V) (hV : zs_ok V) {x : Int32} (h : Q (some (.int (zs_b (0 ≤ x.toInt ∧ x.toInt < zs_all V)))) (zt_S σ m N M)) : zCall G (n + 2) 169 [.ref m, .int x] Q Y (zt_S σ m N M) := by
  refine ze169 ⟨_, _, rfl, ?_⟩
  simp only [↓zt_rc, ↓zt_g0, ↓zt_g1, ↓zt_g2, ↓zt_g3, ↓zt_g4, ↓zt_g5, ↓zt_g6, ↓zt_g7, ↓zt_g8, ↓zt_g9, ↓zt_g10, ↓zt_g11, ↓zt_g12, ↓zt_g13, ↓zt_g14, ↓zt_g15, ↓zt_g16, ↓zt_g17, ↓zt_g18, ↓zt_g19, ↓zt_g20, ↓zt_g21, ↓zt_g22, ↓zt_g23, ↓zt_g24, ↓zt_g25, ↓zt_g26, ↓zt_g27, ↓zt_g28, ↓zt_g29, ↓zt_g30, ↓zt_g31, ↓zt_g32, ↓zt_g33, ↓zt_g34, ↓zt_g35, ↓zt_g36, ↓zt_g37, ↓zt_g38, ↓zt_g39, ↓zt_g40, ↓zt_a1, ↓zt_a2, ↓zt_a3, ↓zt_a4, ↓zt_a5, ↓zt_a6, ↓zt_a7, ↓zt_a8, ↓zt_a9, ↓zt_a10, ↓zt_a11, ↓zt_a12, ↓zt_a13, ↓zt_a14, ↓zt_a15, ↓zt_a16, ↓zt_a17, ↓zt_a18, ↓zt_a19, ↓zt_a20, ↓zt_a21, ↓zt_l19, ↓zt_l17, forall_eq, ↓zqI_r, ↓zqL_r, ↓zqD_r, ↓zqF_r, ↓zqV_r, ↓zqR_r, ↓zqR_s, zboolb, zbool0, zbool1, true_and, and_true, ↓zl_156, ↓zl_159, ↓zl_165, ↓zl_166, ↓zl_167, ↓zl_179, ↓zl_181, ↓zl_184, ↓zl_188, ↓zl_189, ↓zl_190, ↓zl_191, ↓zl_192, ↓zl_203, ↓zl_216, ↓zl_226, zJ, hM]
  refine ⟨fun h1 => ?_, fun h1 => ?_⟩
  · rw [zs_bf (fun h9 => ?_)] at h
    · exact h
    · rw [fa_lt] at h1
      have : (0 : Int32).toInt = 0 := rfl
      omega
  · obtain ⟨s, hs, rfl⟩ := nI_of h1
    rw [hV.n0.1, zn_shr (by omega) (by have := hV.n0.2; omega)]
    rw [nI_toInt hs] at h
    have e : (nI (s >>> zs_n V) = 0) ↔ (0 ≤ (s : Int) ∧ (s : Int) < zs_all V) := by
      show nI _ = nI 0 ↔ _
      have hle : s >>> zs_n V ≤ s := by rw [Nat.shiftRight_eq_div_pow]; exact Nat.div_le_self _ _
      rw [nI_eq (by omega) (by omega), Nat.shiftRight_eq_div_pow]
      have h2 : 0 < 2 ^ zs_n V := Nat.two_pow_pos _
      rw [Nat.div_eq_zero_iff]
      unfold zs_all
      omega
    refine ⟨fun h2 => ?_, fun h2 => ?_⟩
    · rw [zs_bf (fun h9 => h2 (e.mpr h9))] at h
      exact h
    · rw [zs_bt (e.mp h2)] at h
      exact h
def zs_isp (V : zs_V) (x : Int32) : Prop := 0 ≤ x.toInt ∧ x.toInt < zs_all V ∧ zs_w V 0 x.toNatClampNeg ≤ zs_cap V
theorem zt_171 (hM : M.2.2.1 1 = V) (hV : zs_ok V) {x : Int32} (h1 : zs_isp V x → Q (some (.int 1)) (zt_S σ m N M)) (h0 : ¬ zs_isp V x → Q (some (.int 0)) (zt_S σ m N M)) : zCall G (n + 4) 171 [.ref m, .int x] Q Y (zt_S σ m N M) := by
  refine ze171 ⟨_, _, rfl, ?_⟩
  simp only [↓zt_rc, ↓zt_g0, ↓zt_g1, ↓zt_g2, ↓zt_g3, ↓zt_g4, ↓zt_g5, ↓zt_g6, ↓zt_g7, ↓zt_g8, ↓zt_g9, ↓zt_g10, ↓zt_g11, ↓zt_g12, ↓zt_g13, ↓zt_g14, ↓zt_g15, ↓zt_g16, ↓zt_g17, ↓zt_g18, ↓zt_g19, ↓zt_g20, ↓zt_g21, ↓zt_g22, ↓zt_g23, ↓zt_g24, ↓zt_g25, ↓zt_g26, ↓zt_g27, ↓zt_g28, ↓zt_g29, ↓zt_g30, ↓zt_g31, ↓zt_g32, ↓zt_g33, ↓zt_g34, ↓zt_g35, ↓zt_g36, ↓zt_g37, ↓zt_g38, ↓zt_g39, ↓zt_g40, ↓zt_a1, ↓zt_a2, ↓zt_a3, ↓zt_a4, ↓zt_a5, ↓zt_a6, ↓zt_a7, ↓zt_a8, ↓zt_a9, ↓zt_a10, ↓zt_a11, ↓zt_a12, ↓zt_a13, ↓zt_a14, ↓zt_a15, ↓zt_a16, ↓zt_a17, ↓zt_a18, ↓zt_a19, ↓zt_a20, ↓zt_a21, ↓zt_l19, ↓zt_l17, forall_eq, ↓zqI_r, ↓zqL_r, ↓zqD_r, ↓zqF_r, ↓zqV_r, ↓zqR_r, ↓zqR_s, zboolb, zbool0, zbool1, true_and, and_true]
  refine zt_169 hM hV ?_
  simp only [forall_eq, ↓zqI_r, ↓zqL_r, ↓zqD_r, ↓zqF_r, ↓zqV_r, ↓zqR_r, ↓zqR_s, zJ, zs_b0, zboolb, zbool0, zbool1, true_and, and_true, ↓zt_rc, ↓zt_g0, ↓zt_g1, ↓zt_g2, ↓zt_g3, ↓zt_g4, ↓zt_g5, ↓zt_g6, ↓zt_g7, ↓zt_g8, ↓zt_g9, ↓zt_g10, ↓zt_g11, ↓zt_g12, ↓zt_g13, ↓zt_g14, ↓zt_g15, ↓zt_g16, ↓zt_g17, ↓zt_g18, ↓zt_g19, ↓zt_g20, ↓zt_g21, ↓zt_g22, ↓zt_g23, ↓zt_g24, ↓zt_g25, ↓zt_g26, ↓zt_g27, ↓zt_g28, ↓zt_g29, ↓zt_g30, ↓zt_g31, ↓zt_g32, ↓zt_g33, ↓zt_g34, ↓zt_g35, ↓zt_g36, ↓zt_g37, ↓zt_g38, ↓zt_g39, ↓zt_g40, ↓zt_a1, ↓zt_a2, ↓zt_a3, ↓zt_a4, ↓zt_a5, ↓zt_a6, ↓zt_a7, ↓zt_a8, ↓zt_a9, ↓zt_a10, ↓zt_a11, ↓zt_a12, ↓zt_a13, ↓zt_a14, ↓zt_a15, ↓zt_a16, ↓zt_a17, ↓zt_a18, ↓zt_a19, ↓zt_a20, ↓zt_a21, ↓zt_l19, ↓zt_l17, forall_eq, ↓zqI_r, ↓zqL_r, ↓zqD_r, ↓zqF_r, ↓zqV_r, ↓zqR_r, ↓zqR_s, zboolb, zbool0, zbool1, true_and, and_true, Classical.not_not]
  refine ⟨fun h2 => h0 (fun h3 => h2 ⟨h3.1, h3.2.1⟩), fun h2 => ?_⟩
  obtain ⟨s, hs, rfl⟩ : ∃ s : Nat, s < 2147483648 ∧ x = nI s := by
    obtain ⟨s, hs, e⟩ := nI_of (x := x) (by rw [fa_lt]; have : (0 : Int32).toInt = 0 := rfl; omega)
    exact ⟨s, by omega, e⟩
  refine zt_160 hM hV hs ?_
  simp only [forall_eq, ↓zqI_r, ↓zqL_r, ↓zqD_r, ↓zqF_r, ↓zqV_r, ↓zqR_r, ↓zqR_s]
  have hb := zs_w_b hV (f := 0) (by omega) s
  have hc := hV.c1
  have e : iI (zs_cap V - zs_w V 0 s) < 0 ↔ zs_cap V - zs_w V 0 s < 0 := by
    show _ < iI 0 ↔ _
    rw [iI_lt (by omega) (by omega) (by omega) (by omega)]
  rw [e]
  unfold zs_isp at h1 h0
  rw [nI_cl hs] at h1 h0
  exact ⟨fun h3 => h0 (by omega), fun h3 => h1 ⟨h2.1, h2.2, by omega⟩⟩
/-- all but the int arrays from a to b are the same -/
def zt_kp (a b : Nat) (M M' : zt_M) : Prop := M'.1 = M.1 ∧ M'.2.1 = M.2.1 ∧ M'.2.2.2 = M.2.2.2 ∧ ∀ j, j < a ∨ b < j → M'.2.2.1 j = M.2.2.1 j
theorem zt_kp.rfl' {a b : Nat} {M : zt_M} : zt_kp a b M M := ⟨rfl, rfl, rfl, fun _ _ => rfl⟩
theorem zt_kp.trans {a b : Nat} {M M' M'' : zt_M} (h : zt_kp a b M M') (h' : zt_kp a b M' M'') : zt_kp a b M M'' := ⟨h'.1.trans h.1, h'.2.1.trans h.2.1, h'.2.2.1.trans h.2.2.1, fun j hj => (h'.2.2.2 j hj).trans (h.2.2.2 j hj)⟩
theorem zt_kp.wide {a b c d : Nat} {M M' : zt_M} (h : zt_kp a b M M') (h1 : c ≤ a) (h2 : b ≤ d) : zt_kp c d M M' := ⟨h.1, h.2.1, h.2.2.1, fun j hj => h.2.2.2 j (by omega)⟩
theorem zt_kp.set {a b j : Nat} {M : zt_M} {f : Nat → Int32} (h1 : a ≤ j) (h2 : j ≤ b) : zt_kp a b M (M.sA j f) := ⟨rfl, rfl, rfl, fun k hk => va_up_ne _ _ (by omega)⟩
/-- the sums are laid -/
def zt_ly (V : zs_V) (M : zt_M) (q : Nat) : Prop := ∀ f, f ≤ 3 → ∀ s, s < q → M.2.2.1 (5 + f) s = iI (zs_w V f s)
theorem zt_172 (hm : G.1 ≤ m) (hM : M.2.2.1 1 = V) (hV : zs_ok V) (h : ∀ M', zt_kp 5 8 M M' → zt_ly V M' (zs_all V) → Q none (zt_S σ m N M')) : zCall G (n + 3) 172 [.ref m] Q Y (zt_S σ m N M) := by
  refine ze172 ⟨_, rfl, ?_⟩
  have hA := hV.all
  have hn := hV.n0
  refine zf2 0 (zs_all V) (fun q s' => ∃ M', s' = zt_S σ m N M' ∧ zt_kp 5 8 M M' ∧ zt_ly V M' q) (by omega) ?_ ?_ ⟨M, rfl, zt_kp.rfl', fun f _ s hs => absurd hs (by omega)⟩
  · rintro rec q s' _ hq ⟨M', rfl, hk, hl⟩ hrec
    have e1 : M'.2.2.1 1 = V := (hk.2.2.2 1 (by omega)).trans hM
    simp only [↓zt_rc, ↓zt_g0, ↓zt_g1, ↓zt_g2, ↓zt_g3, ↓zt_g4, ↓zt_g5, ↓zt_g6, ↓zt_g7, ↓zt_g8, ↓zt_g9, ↓zt_g10, ↓zt_g11, ↓zt_g12, ↓zt_g13, ↓zt_g14, ↓zt_g15, ↓zt_g16, ↓zt_g17, ↓zt_g18, ↓zt_g19, ↓zt_g20, ↓zt_g21, ↓zt_g22, ↓zt_g23, ↓zt_g24, ↓zt_g25, ↓zt_g26, ↓zt_g27, ↓zt_g28, ↓zt_g29, ↓zt_g30, ↓zt_g31, ↓zt_g32, ↓zt_g33, ↓zt_g34, ↓zt_g35, ↓zt_g36, ↓zt_g37, ↓zt_g38, ↓zt_g39, ↓zt_g40, ↓zt_p4 hm, ↓zt_p5 hm, ↓zt_p6 hm, ↓zt_p15 hm, ↓zt_p21 hm, ↓zt_p22 hm, ↓zt_p23 hm, ↓zt_p26 hm, ↓zt_p28 hm, ↓zt_p29 hm, ↓zt_p30 hm, ↓zt_p31 hm, ↓zt_p32 hm, ↓zt_p33 hm, ↓zt_p34 hm, ↓zt_p35 hm, ↓zt_p36 hm, ↓zt_p40 hm, ↓zt_p19 hm, ↓zt_p20 hm, ↓zt_a1, ↓zt_a2, ↓zt_a3, ↓zt_a4, ↓zt_a5, ↓zt_a6, ↓zt_a7, ↓zt_a8, ↓zt_a9, ↓zt_a10, ↓zt_a11, ↓zt_a12, ↓zt_a13, ↓zt_a14, ↓zt_a15, ↓zt_a16, ↓zt_a17, ↓zt_a18, ↓zt_a19, ↓zt_a20, ↓zt_a21, ↓zt_s1 hm, ↓zt_s2 hm, ↓zt_s3 hm, ↓zt_s4 hm, ↓zt_s5 hm, ↓zt_s6 hm, ↓zt_s7 hm, ↓zt_s8 hm, ↓zt_s9 hm, ↓zt_s10 hm, ↓zt_s11 hm, ↓zt_s12 hm, ↓zt_s16 hm, ↓zt_s17 hm, ↓zt_s18 hm, ↓zt_s20 hm, ↓zt_s13 hm, ↓zt_s14 hm, ↓zt_s15 hm, ↓zt_s21 hm, ↓zt_l19, ↓zt_l17, forall_eq, ↓zqI_r, ↓zqL_r, ↓zqD_r, ↓zqF_r, ↓zqV_r, ↓zqR_r, ↓zqR_s, zboolb, zbool0, zbool1, true_and, and_true, ↓zl_156, ↓zl_159, ↓zl_163 hm, ↓zl_165, ↓zl_166, ↓zl_167, ↓zl_179, ↓zl_181, ↓zl_184, ↓zl_188, ↓zl_189, ↓zl_190, ↓zl_191, ↓zl_192, ↓zl_203, ↓zl_216, ↓zl_226, ↓zl_255 hm, e1, hn.1]
    rw [zn_shl _ (by omega)]
    refine ⟨fun hle => absurd hle (nI_ge hq (by unfold zs_all at hA; omega)), fun _ => ?_⟩
    have hi : vp_in (nI q) 1024 := nI_i (by omega) (by omega)
    refine zt_161 (by exact e1) hV (s := q) (f := 0) (by omega) (by omega) ?_
    simp only [↓zt_rc, ↓zt_g0, ↓zt_g1, ↓zt_g2, ↓zt_g3, ↓zt_g4, ↓zt_g5, ↓zt_g6, ↓zt_g7, ↓zt_g8, ↓zt_g9, ↓zt_g10, ↓zt_g11, ↓zt_g12, ↓zt_g13, ↓zt_g14, ↓zt_g15, ↓zt_g16, ↓zt_g17, ↓zt_g18, ↓zt_g19, ↓zt_g20, ↓zt_g21, ↓zt_g22, ↓zt_g23, ↓zt_g24, ↓zt_g25, ↓zt_g26, ↓zt_g27, ↓zt_g28, ↓zt_g29, ↓zt_g30, ↓zt_g31, ↓zt_g32, ↓zt_g33, ↓zt_g34, ↓zt_g35, ↓zt_g36, ↓zt_g37, ↓zt_g38, ↓zt_g39, ↓zt_g40, ↓zt_p4 hm, ↓zt_p5 hm, ↓zt_p6 hm, ↓zt_p15 hm, ↓zt_p21 hm, ↓zt_p22 hm, ↓zt_p23 hm, ↓zt_p26 hm, ↓zt_p28 hm, ↓zt_p29 hm, ↓zt_p30 hm, ↓zt_p31 hm, ↓zt_p32 hm, ↓zt_p33 hm, ↓zt_p34 hm, ↓zt_p35 hm, ↓zt_p36 hm, ↓zt_p40 hm, ↓zt_p19 hm, ↓zt_p20 hm, ↓zt_a1, ↓zt_a2, ↓zt_a3, ↓zt_a4, ↓zt_a5, ↓zt_a6, ↓zt_a7, ↓zt_a8, ↓zt_a9, ↓zt_a10, ↓zt_a11, ↓zt_a12, ↓zt_a13, ↓zt_a14, ↓zt_a15, ↓zt_a16, ↓zt_a17, ↓zt_a18, ↓zt_a19, ↓zt_a20, ↓zt_a21, ↓zt_s1 hm, ↓zt_s2 hm, ↓zt_s3 hm, ↓zt_s4 hm, ↓zt_s5 hm, ↓zt_s6 hm, ↓zt_s7 hm, ↓zt_s8 hm, ↓zt_s9 hm, ↓zt_s10 hm, ↓zt_s11 hm, ↓zt_s12 hm, ↓zt_s16 hm, ↓zt_s17 hm, ↓zt_s18 hm, ↓zt_s20 hm, ↓zt_s13 hm, ↓zt_s14 hm, ↓zt_s15 hm, ↓zt_s21 hm, ↓zt_l19, ↓zt_l17, forall_eq, ↓zqI_r, ↓zqL_r, ↓zqD_r, ↓zqF_r, ↓zqV_r, ↓zqR_r, ↓zqR_s, zboolb, zbool0, zbool1, true_and, and_true]
    refine ⟨hi, zt_161 (by exact e1) hV (s := q) (f := 1) (by omega) (by omega) ?_⟩
    simp only [↓zt_rc, ↓zt_g0, ↓zt_g1, ↓zt_g2, ↓zt_g3, ↓zt_g4, ↓zt_g5, ↓zt_g6, ↓zt_g7, ↓zt_g8, ↓zt_g9, ↓zt_g10, ↓zt_g11, ↓zt_g12, ↓zt_g13, ↓zt_g14, ↓zt_g15, ↓zt_g16, ↓zt_g17, ↓zt_g18, ↓zt_g19, ↓zt_g20, ↓zt_g21, ↓zt_g22, ↓zt_g23, ↓zt_g24, ↓zt_g25, ↓zt_g26, ↓zt_g27, ↓zt_g28, ↓zt_g29, ↓zt_g30, ↓zt_g31, ↓zt_g32, ↓zt_g33, ↓zt_g34, ↓zt_g35, ↓zt_g36, ↓zt_g37, ↓zt_g38, ↓zt_g39, ↓zt_g40, ↓zt_p4 hm, ↓zt_p5 hm, ↓zt_p6 hm, ↓zt_p15 hm, ↓zt_p21 hm, ↓zt_p22 hm, ↓zt_p23 hm, ↓zt_p26 hm, ↓zt_p28 hm, ↓zt_p29 hm, ↓zt_p30 hm, ↓zt_p31 hm, ↓zt_p32 hm, ↓zt_p33 hm, ↓zt_p34 hm, ↓zt_p35 hm, ↓zt_p36 hm, ↓zt_p40 hm, ↓zt_p19 hm, ↓zt_p20 hm, ↓zt_a1, ↓zt_a2, ↓zt_a3, ↓zt_a4, ↓zt_a5, ↓zt_a6, ↓zt_a7, ↓zt_a8, ↓zt_a9, ↓zt_a10, ↓zt_a11, ↓zt_a12, ↓zt_a13, ↓zt_a14, ↓zt_a15, ↓zt_a16, ↓zt_a17, ↓zt_a18, ↓zt_a19, ↓zt_a20, ↓zt_a21, ↓zt_s1 hm, ↓zt_s2 hm, ↓zt_s3 hm, ↓zt_s4 hm, ↓zt_s5 hm, ↓zt_s6 hm, ↓zt_s7 hm, ↓zt_s8 hm, ↓zt_s9 hm, ↓zt_s10 hm, ↓zt_s11 hm, ↓zt_s12 hm, ↓zt_s16 hm, ↓zt_s17 hm, ↓zt_s18 hm, ↓zt_s20 hm, ↓zt_s13 hm, ↓zt_s14 hm, ↓zt_s15 hm, ↓zt_s21 hm, ↓zt_l19, ↓zt_l17, forall_eq, ↓zqI_r, ↓zqL_r, ↓zqD_r, ↓zqF_r, ↓zqV_r, ↓zqR_r, ↓zqR_s, zboolb, zbool0, zbool1, true_and, and_true]
    refine ⟨hi, zt_161 (by exact e1) hV (s := q) (f := 2) (by omega) (by omega) ?_⟩
    simp only [↓zt_rc, ↓zt_g0, ↓zt_g1, ↓zt_g2, ↓zt_g3, ↓zt_g4, ↓zt_g5, ↓zt_g6, ↓zt_g7, ↓zt_g8, ↓zt_g9, ↓zt_g10, ↓zt_g11, ↓zt_g12, ↓zt_g13, ↓zt_g14, ↓zt_g15, ↓zt_g16, ↓zt_g17, ↓zt_g18, ↓zt_g19, ↓zt_g20, ↓zt_g21, ↓zt_g22, ↓zt_g23, ↓zt_g24, ↓zt_g25, ↓zt_g26, ↓zt_g27, ↓zt_g28, ↓zt_g29, ↓zt_g30, ↓zt_g31, ↓zt_g32, ↓zt_g33, ↓zt_g34, ↓zt_g35, ↓zt_g36, ↓zt_g37, ↓zt_g38, ↓zt_g39, ↓zt_g40, ↓zt_p4 hm, ↓zt_p5 hm, ↓zt_p6 hm, ↓zt_p15 hm, ↓zt_p21 hm, ↓zt_p22 hm, ↓zt_p23 hm, ↓zt_p26 hm, ↓zt_p28 hm, ↓zt_p29 hm, ↓zt_p30 hm, ↓zt_p31 hm, ↓zt_p32 hm, ↓zt_p33 hm, ↓zt_p34 hm, ↓zt_p35 hm, ↓zt_p36 hm, ↓zt_p40 hm, ↓zt_p19 hm, ↓zt_p20 hm, ↓zt_a1, ↓zt_a2, ↓zt_a3, ↓zt_a4, ↓zt_a5, ↓zt_a6, ↓zt_a7, ↓zt_a8, ↓zt_a9, ↓zt_a10, ↓zt_a11, ↓zt_a12, ↓zt_a13, ↓zt_a14, ↓zt_a15, ↓zt_a16, ↓zt_a17, ↓zt_a18, ↓zt_a19, ↓zt_a20, ↓zt_a21, ↓zt_s1 hm, ↓zt_s2 hm, ↓zt_s3 hm, ↓zt_s4 hm, ↓zt_s5 hm, ↓zt_s6 hm, ↓zt_s7 hm, ↓zt_s8 hm, ↓zt_s9 hm, ↓zt_s10 hm, ↓zt_s11 hm, ↓zt_s12 hm, ↓zt_s16 hm, ↓zt_s17 hm, ↓zt_s18 hm, ↓zt_s20 hm, ↓zt_s13 hm, ↓zt_s14 hm, ↓zt_s15 hm, ↓zt_s21 hm, ↓zt_l19, ↓zt_l17, forall_eq, ↓zqI_r, ↓zqL_r, ↓zqD_r, ↓zqF_r, ↓zqV_r, ↓zqR_r, ↓zqR_s, zboolb, zbool0, zbool1, true_and, and_true]
    refine ⟨hi, zt_161 (by exact e1) hV (s := q) (f := 3) (by omega) (by omega) ?_⟩
    simp only [↓zt_rc, ↓zt_g0, ↓zt_g1, ↓zt_g2, ↓zt_g3, ↓zt_g4, ↓zt_g5, ↓zt_g6, ↓zt_g7, ↓zt_g8, ↓zt_g9, ↓zt_g10, ↓zt_g11, ↓zt_g12, ↓zt_g13, ↓zt_g14, ↓zt_g15, ↓zt_g16, ↓zt_g17, ↓zt_g18, ↓zt_g19, ↓zt_g20, ↓zt_g21, ↓zt_g22, ↓zt_g23, ↓zt_g24, ↓zt_g25, ↓zt_g26, ↓zt_g27, ↓zt_g28, ↓zt_g29, ↓zt_g30, ↓zt_g31, ↓zt_g32, ↓zt_g33, ↓zt_g34, ↓zt_g35, ↓zt_g36, ↓zt_g37, ↓zt_g38, ↓zt_g39, ↓zt_g40, ↓zt_p4 hm, ↓zt_p5 hm, ↓zt_p6 hm, ↓zt_p15 hm, ↓zt_p21 hm, ↓zt_p22 hm, ↓zt_p23 hm, ↓zt_p26 hm, ↓zt_p28 hm, ↓zt_p29 hm, ↓zt_p30 hm, ↓zt_p31 hm, ↓zt_p32 hm, ↓zt_p33 hm, ↓zt_p34 hm, ↓zt_p35 hm, ↓zt_p36 hm, ↓zt_p40 hm, ↓zt_p19 hm, ↓zt_p20 hm, ↓zt_a1, ↓zt_a2, ↓zt_a3, ↓zt_a4, ↓zt_a5, ↓zt_a6, ↓zt_a7, ↓zt_a8, ↓zt_a9, ↓zt_a10, ↓zt_a11, ↓zt_a12, ↓zt_a13, ↓zt_a14, ↓zt_a15, ↓zt_a16, ↓zt_a17, ↓zt_a18, ↓zt_a19, ↓zt_a20, ↓zt_a21, ↓zt_s1 hm, ↓zt_s2 hm, ↓zt_s3 hm, ↓zt_s4 hm, ↓zt_s5 hm, ↓zt_s6 hm, ↓zt_s7 hm, ↓zt_s8 hm, ↓zt_s9 hm, ↓zt_s10 hm, ↓zt_s11 hm, ↓zt_s12 hm, ↓zt_s16 hm, ↓zt_s17 hm, ↓zt_s18 hm, ↓zt_s20 hm, ↓zt_s13 hm, ↓zt_s14 hm, ↓zt_s15 hm, ↓zt_s21 hm, ↓zt_l19, ↓zt_l17, forall_eq, ↓zqI_r, ↓zqL_r, ↓zqD_r, ↓zqF_r, ↓zqV_r, ↓zqR_r, ↓zqR_s, zboolb, zbool0, zbool1, true_and, and_true]
    refine ⟨hi, hrec _ ⟨_, rfl, ?_, ?_⟩⟩
    · exact hk.trans (((zt_kp.set (by omega) (by omega)).trans (zt_kp.set (by omega) (by omega))).trans ((zt_kp.set (by omega) (by omega)).trans (zt_kp.set (by omega) (by omega))))
    · intro f hf s hs
      rw [nI_cl (by omega)]
      by_cases e : s = q
      · subst e
        match f, hf with
        | 0, _ => simp [va_up]
        | 1, _ => simp [va_up]
        | 2, _ => simp [va_up]
        | 3, _ => simp [va_up]
        | f + 4, h => exact absurd h (by omega)
      · have := hl f hf s (by omega)
        match f, hf with
        | 0, _ => exact (va_up_ne _ _ e).trans this
        | 1, _ => exact (va_up_ne _ _ e).trans this
        | 2, _ => exact (va_up_ne _ _ e).trans this
        | 3, _ => exact (va_up_ne _ _ e).trans this
        | f + 4, h => exact absurd h (by omega)
  · rintro rec s' ⟨M', rfl, hk, hl⟩
    have e1 : M'.2.2.1 1 = V := (hk.2.2.2 1 (by omega)).trans hM
    simp only [↓zt_rc, ↓zt_g0, ↓zt_g1, ↓zt_g2, ↓zt_g3, ↓zt_g4, ↓zt_g5, ↓zt_g6, ↓zt_g7, ↓zt_g8, ↓zt_g9, ↓zt_g10, ↓zt_g11, ↓zt_g12, ↓zt_g13, ↓zt_g14, ↓zt_g15, ↓zt_g16, ↓zt_g17, ↓zt_g18, ↓zt_g19, ↓zt_g20, ↓zt_g21, ↓zt_g22, ↓zt_g23, ↓zt_g24, ↓zt_g25, ↓zt_g26, ↓zt_g27, ↓zt_g28, ↓zt_g29, ↓zt_g30, ↓zt_g31, ↓zt_g32, ↓zt_g33, ↓zt_g34, ↓zt_g35, ↓zt_g36, ↓zt_g37, ↓zt_g38, ↓zt_g39, ↓zt_g40, ↓zt_p4 hm, ↓zt_p5 hm, ↓zt_p6 hm, ↓zt_p15 hm, ↓zt_p21 hm, ↓zt_p22 hm, ↓zt_p23 hm, ↓zt_p26 hm, ↓zt_p28 hm, ↓zt_p29 hm, ↓zt_p30 hm, ↓zt_p31 hm, ↓zt_p32 hm, ↓zt_p33 hm, ↓zt_p34 hm, ↓zt_p35 hm, ↓zt_p36 hm, ↓zt_p40 hm, ↓zt_p19 hm, ↓zt_p20 hm, ↓zt_a1, ↓zt_a2, ↓zt_a3, ↓zt_a4, ↓zt_a5, ↓zt_a6, ↓zt_a7, ↓zt_a8, ↓zt_a9, ↓zt_a10, ↓zt_a11, ↓zt_a12, ↓zt_a13, ↓zt_a14, ↓zt_a15, ↓zt_a16, ↓zt_a17, ↓zt_a18, ↓zt_a19, ↓zt_a20, ↓zt_a21, ↓zt_s1 hm, ↓zt_s2 hm, ↓zt_s3 hm, ↓zt_s4 hm, ↓zt_s5 hm, ↓zt_s6 hm, ↓zt_s7 hm, ↓zt_s8 hm, ↓zt_s9 hm, ↓zt_s10 hm, ↓zt_s11 hm, ↓zt_s12 hm, ↓zt_s16 hm, ↓zt_s17 hm, ↓zt_s18 hm, ↓zt_s20 hm, ↓zt_s13 hm, ↓zt_s14 hm, ↓zt_s15 hm, ↓zt_s21 hm, ↓zt_l19, ↓zt_l17, forall_eq, ↓zqI_r, ↓zqL_r, ↓zqD_r, ↓zqF_r, ↓zqV_r, ↓zqR_r, ↓zqR_s, zboolb, zbool0, zbool1, true_and, and_true, ↓zl_156, ↓zl_159, ↓zl_163 hm, ↓zl_165, ↓zl_166, ↓zl_167, ↓zl_179, ↓zl_181, ↓zl_184, ↓zl_188, ↓zl_189, ↓zl_190, ↓zl_191, ↓zl_192, ↓zl_203, ↓zl_216, ↓zl_226, ↓zl_255 hm, e1, hn.1]
    rw [zn_shl _ (by omega)]
    refine ⟨fun _ => h M' hk hl, fun hn => absurd (nI_le (Nat.le_refl _) (by unfold zs_all at hA; omega)) hn⟩
end ZT1
