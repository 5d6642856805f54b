/-! THE REFERENCE: weights of a kernel -/
theorem zl_297 {G : zPg} {n : Nat} {x y : Int32} {Q : zQ} {Y : zY} {s : zS} : zCall G (n + 1) 297 [.int x, .int y] Q Y s ↔ Q (some (.int (if x < y then y else x))) s := by
  rw [zc_eq (by decide) (b := zb297) rfl]
  simp only [zb297, forall_eq, List.cons.injEq, Value.ref.injEq, Value.int.injEq, Value.long.injEq, and_true, and_assoc, true_and, va_rf_iff, va_rf_iff2, exists_and_left, exists_eq_left', exists_eq_left, zJ]
  by_cases h : x < y
  · rw [if_pos h]
    simp only [h, not_true, false_implies, true_implies, and_true, true_and]
  · rw [if_neg h]
    simp only [h, not_false_eq_true, false_implies, true_implies, and_true, true_and]
theorem zt_sBc {M : zt_M} {j k : Nat} {f g : Nat → Int64} (h : j ≠ k) : (M.sB j f).sB k g = (M.sB k g).sB j f := by
  unfold zt_M.sB
  refine Prod.ext rfl (Prod.ext rfl (Prod.ext rfl (funext fun q => ?_)))
  unfold va_up
  by_cases h1 : q = k
  · have h2 : q ≠ j := by omega
    simp only [if_pos h1, if_neg h2]
  · by_cases h2 : q = j
    · simp only [if_pos h2, if_neg h1]
    · simp only [if_neg h2, if_neg h1]
/-- a kernel's members and the table of payoffs are laid -/
def zt_kn (a : Nat → Nat → Int) (mm nn k : Nat) (r c : Nat → Nat) (M : zt_M) : Prop := k ≤ 5 ∧ mm ≤ 5 ∧ nn ≤ 5 ∧ M.1 15 = nI k ∧ (∀ i, i < k → M.2.2.1 11 i = nI (r i) ∧ r i < mm) ∧ (∀ j, j < k → M.2.2.1 12 j = nI (c j) ∧ c j < nn) ∧ ∀ i j, i < mm → j < nn → M.2.2.1 10 (5 * i + j) = iI (a i j) ∧ -990 ≤ a i j ∧ a i j ≤ 990
def zs_B (g : Bool) (a : Nat → Nat → Int) (r c : Nat → Nat) (x y : Nat) : Int := if g then a (r x) (c y) else a (r y) (c x)
/-- what the weight of a member is in proportion to -/
def zs_X (k : Nat) (b : Nat → Nat → Int) (o : Nat) : Int := zk_sg o * zk_dt (k - 1) (fun p q => b (zk_sk o q) (p + 1) - b (zk_sk o q) 0)
section ZTE
variable {G : zPg} {n : Nat} {σ : zS} {m : Nat} {N : Nat → Option Nat} {M M0 : zt_M} {Q : zQ} {Y : zY} {a : Nat → Nat → Int} {mm nn k : Nat} {r c : Nat → Nat}
theorem zx_5 (i j : Nat) : (5 : Int32) * nI i + nI j = nI (5 * i + j) := by
  show nI 5 * nI i + nI j = _
  rw [zn_mul, nI_add]
theorem zs_B_b {g : Bool} {x y : Nat} (h : zt_kn a mm nn k r c M) (hx : x < k) (hy : y < k) : -990 ≤ zs_B g a r c x y ∧ zs_B g a r c x y ≤ 990 := by
  obtain ⟨h1, h2, h3, h4, h5, h6, h7⟩ := h
  unfold zs_B
  cases g with
  | true => exact (h7 _ _ (h5 x hx).2 (h6 y hy).2).2
  | false => exact (h7 _ _ (h5 y hy).2 (h6 x hx).2).2
theorem zl_cell {g : Bool} {z : Int32} (hz : z = 0 ↔ g = false) (h : zt_kn a mm nn k r c M) {x y : Nat} (hx : x < k) (hy : y < k) : zCall G (n + 1) 204 [.ref m, .int z, .int (nI x), .int (nI y)] Q Y (zt_S σ m N M) ↔ Q (some (.int (iI (zs_B g a r c x y)))) (zt_S σ m N M) := by
  obtain ⟨h1, h2, h3, h4, h5, h6, h7⟩ := h
  rw [zc_eq (by decide) (b := zb204) rfl]
  simp only [zb204, forall_eq, List.cons.injEq, Value.ref.injEq, Value.int.injEq, Value.long.injEq, and_true, and_assoc, true_and, va_rf_iff, va_rf_iff2, exists_and_left, exists_eq_left', exists_eq_left, ↓zt_rc, ↓zt_g0, ↓zt_g1, ↓zt_g2, ↓zt_g3, ↓zt_g4, ↓zt_g5, ↓zt_g6, ↓zt_g7, ↓zt_g8, ↓zt_g9, ↓zt_g10, ↓zt_g11, ↓zt_g12, ↓zt_g13, ↓zt_g14, ↓zt_g15, ↓zt_g16, ↓zt_g17, ↓zt_g18, ↓zt_g19, ↓zt_g20, ↓zt_g21, ↓zt_g22, ↓zt_g23, ↓zt_g24, ↓zt_g25, ↓zt_g26, ↓zt_g27, ↓zt_g28, ↓zt_g29, ↓zt_g30, ↓zt_g31, ↓zt_g32, ↓zt_g33, ↓zt_g34, ↓zt_g35, ↓zt_g36, ↓zt_g37, ↓zt_g38, ↓zt_g39, ↓zt_g40, ↓zt_a1, ↓zt_a2, ↓zt_a3, ↓zt_a4, ↓zt_a5, ↓zt_a6, ↓zt_a7, ↓zt_a8, ↓zt_a9, ↓zt_a10, ↓zt_a11, ↓zt_a12, ↓zt_a13, ↓zt_a14, ↓zt_a15, ↓zt_a16, ↓zt_a17, ↓zt_a18, ↓zt_a19, ↓zt_a20, ↓zt_a21, ↓zt_l19, ↓zt_l17, forall_eq, ↓zqI_r, ↓zqL_r, ↓zqD_r, ↓zqF_r, ↓zqV_r, ↓zqR_r, ↓zqR_s, zboolb, zbool0, zbool1, true_and, and_true, zJ, nI_cl (show x < 2147483648 by omega), nI_cl (show y < 2147483648 by omega), (h5 x hx).1, (h5 y hy).1, (h6 x hx).1, (h6 y hy).1, zx_5]
  have ix : vp_in (nI x) 5 := nI_i (by omega) (by omega)
  have iy : vp_in (nI y) 5 := nI_i (by omega) (by omega)
  have rx := (h5 x hx).2
  have ry := (h5 y hy).2
  have cx := (h6 x hx).2
  have cy := (h6 y hy).2
  rw [nI_cl (by omega), nI_cl (by omega), (h7 _ _ rx cy).1, (h7 _ _ ry cx).1]
  unfold zs_B
  cases g with
  | true =>
    have hz' : ¬ z = 0 := fun e => by have := hz.mp e; cases this
    simp only [hz', false_implies, true_and, not_false_eq_true, true_implies, if_true, ix, iy]
    exact ⟨fun h => h.2, fun h => ⟨nI_i (by omega) (by omega), h⟩⟩
  | false =>
    have hz' : z = 0 := hz.mpr rfl
    simp only [hz', not_true, false_implies, and_true, true_implies, ix, iy, true_and, Bool.false_eq_true, if_false]
    exact ⟨fun h => h.2, fun h => ⟨nI_i (by omega) (by omega), h⟩⟩
theorem zt_kn.sB {j : Nat} {f : Nat → Int64} (h : zt_kn a mm nn k r c M) : zt_kn a mm nn k r c (M.sB j f) := h
theorem zt_kn.sL {j : Nat} {x : Int64} (h : zt_kn a mm nn k r c M) : zt_kn a mm nn k r c (M.sL j x) := h
theorem zt_202 (hm : G.1 ≤ m) {g : Bool} {z : Int32} (hz : z = 0 ↔ g = false) {jb : Nat} (hjb : jb = 14 ∨ jb = 15) (hk1 : 1 ≤ k) (h : zt_kn a mm nn k r c M) (hQ : ∀ w f, (∀ o, o < k → w o = iL (zs_X k (zs_B g a r c) o)) → Q (some (.long (iL (fb_si (zs_X k (zs_B g a r c)) k)))) (zt_S σ m N ((M.sB jb w).sB 13 f))) : zCall G (n + 7) 202 [.ref m, .int z, va_rf (some (m + jb))] Q Y (zt_S σ m N M) := by
  have hk5 := h.1
  have h15 := h.2.2.2.1
  have hcj : ∀ M : zt_M, zt_c m N M jb = some (.inl (1, 5, .inr (.inl (M.2.2.2 jb)))) := by
    rcases hjb with e | e <;> subst e <;> exact fun _ => rfl
  have hjlt : jb < 22 := by omega
  refine ze202 ⟨_, _, _, rfl, ?_⟩
  have e0 : M = (M.sB jb (M.2.2.2 jb)).sB 13 (M.2.2.2 13) := by
    have : (M.sB jb (M.2.2.2 jb)) = M := zt_sB0
    rw [this, zt_sB0]
  have eK : nI k - 1 = nI (k - 1) := zn_sub (b := 1) hk1
  have eL : (if 1 < nI (k - 1) then nI (k - 1) else (1 : Int32)) = nI (if k - 1 ≤ 1 then 1 else k - 1) := by
    have : (1 : Int32) < nI (k - 1) ↔ 1 < k - 1 := nI_ltI (a := 1) (by omega) (by omega)
    by_cases h1 : k - 1 ≤ 1
    · rw [if_neg (fun h9 => absurd (this.mp h9) (by omega)), if_pos h1]
      rfl
    · rw [if_pos (this.mpr (by omega)), if_neg h1]
  refine zf3 0 k (fun o x s' => ∃ w f, s' = zt_S σ m N ((M.sB jb w).sB 13 f) ∧ x = iL (fb_si (zs_X k (zs_B g a r c)) o) ∧ ∀ q, q < o → w q = iL (zs_X k (zs_B g a r c) q)) (by omega) ?_ ?_ ⟨M.2.2.2 jb, M.2.2.2 13, by rw [← e0], rfl, fun q hq => absurd hq (by omega)⟩
  · rintro rec o x s' _ ho ⟨w, f, rfl, rfl, hw⟩ hrec
    simp only [↓zt_rc, ↓zt_g0, ↓zt_g1, ↓zt_g2, ↓zt_g3, ↓zt_g4, ↓zt_g5, ↓zt_g6, ↓zt_g7, ↓zt_g8, ↓zt_g9, ↓zt_g10, ↓zt_g11, ↓zt_g12, ↓zt_g13, ↓zt_g14, ↓zt_g15, ↓zt_g16, ↓zt_g17, ↓zt_g18, ↓zt_g19, ↓zt_g20, ↓zt_g21, ↓zt_g22, ↓zt_g23, ↓zt_g24, ↓zt_g25, ↓zt_g26, ↓zt_g27, ↓zt_g28, ↓zt_g29, ↓zt_g30, ↓zt_g31, ↓zt_g32, ↓zt_g33, ↓zt_g34, ↓zt_g35, ↓zt_g36, ↓zt_g37, ↓zt_g38, ↓zt_g39, ↓zt_g40, ↓zt_p4 hm, ↓zt_p5 hm, ↓zt_p6 hm, ↓zt_p15 hm, ↓zt_p21 hm, ↓zt_p22 hm, ↓zt_p23 hm, ↓zt_p26 hm, ↓zt_p28 hm, ↓zt_p29 hm, ↓zt_p30 hm, ↓zt_p31 hm, ↓zt_p32 hm, ↓zt_p33 hm, ↓zt_p34 hm, ↓zt_p35 hm, ↓zt_p36 hm, ↓zt_p40 hm, ↓zt_p19 hm, ↓zt_p20 hm, ↓zt_a1, ↓zt_a2, ↓zt_a3, ↓zt_a4, ↓zt_a5, ↓zt_a6, ↓zt_a7, ↓zt_a8, ↓zt_a9, ↓zt_a10, ↓zt_a11, ↓zt_a12, ↓zt_a13, ↓zt_a14, ↓zt_a15, ↓zt_a16, ↓zt_a17, ↓zt_a18, ↓zt_a19, ↓zt_a20, ↓zt_a21, ↓zt_s1 hm, ↓zt_s2 hm, ↓zt_s3 hm, ↓zt_s4 hm, ↓zt_s5 hm, ↓zt_s6 hm, ↓zt_s7 hm, ↓zt_s8 hm, ↓zt_s9 hm, ↓zt_s10 hm, ↓zt_s11 hm, ↓zt_s12 hm, ↓zt_s16 hm, ↓zt_s17 hm, ↓zt_s18 hm, ↓zt_s20 hm, ↓zt_s13 hm, ↓zt_s14 hm, ↓zt_s15 hm, ↓zt_s21 hm, ↓zt_l19, ↓zt_l17, forall_eq, ↓zqI_r, ↓zqL_r, ↓zqD_r, ↓zqF_r, ↓zqV_r, ↓zqR_r, ↓zqR_s, zboolb, zbool0, zbool1, true_and, and_true, h15]
    refine ⟨fun h9 => absurd h9 (nI_ge ho (by omega)), fun _ => ?_⟩
    refine zf2 1 k (fun p s' => ∃ f, s' = zt_S σ m N ((M.sB jb w).sB 13 f) ∧ ∀ i q, i < p - 1 → q < k - 1 → f (25 * (k - 1 - 1) + 5 * i + q) = iL (zs_B g a r c (zk_sk o q) (i + 1) - zs_B g a r c (zk_sk o q) 0)) hk1 ?_ ?_ ⟨f, rfl, fun i q hi => absurd hi (by omega)⟩
    · rintro rec2 p s' hp1 hp ⟨f2, rfl, hf2⟩ hrec2
      have hL : (if k - 1 ≤ 1 then 1 else k - 1) = k - 1 := by
        by_cases h1 : k - 1 ≤ 1
        · rw [if_pos h1]; omega
        · rw [if_neg h1]
      simp only [↓zt_rc, ↓zt_g0, ↓zt_g1, ↓zt_g2, ↓zt_g3, ↓zt_g4, ↓zt_g5, ↓zt_g6, ↓zt_g7, ↓zt_g8, ↓zt_g9, ↓zt_g10, ↓zt_g11, ↓zt_g12, ↓zt_g13, ↓zt_g14, ↓zt_g15, ↓zt_g16, ↓zt_g17, ↓zt_g18, ↓zt_g19, ↓zt_g20, ↓zt_g21, ↓zt_g22, ↓zt_g23, ↓zt_g24, ↓zt_g25, ↓zt_g26, ↓zt_g27, ↓zt_g28, ↓zt_g29, ↓zt_g30, ↓zt_g31, ↓zt_g32, ↓zt_g33, ↓zt_g34, ↓zt_g35, ↓zt_g36, ↓zt_g37, ↓zt_g38, ↓zt_g39, ↓zt_g40, ↓zt_p4 hm, ↓zt_p5 hm, ↓zt_p6 hm, ↓zt_p15 hm, ↓zt_p21 hm, ↓zt_p22 hm, ↓zt_p23 hm, ↓zt_p26 hm, ↓zt_p28 hm, ↓zt_p29 hm, ↓zt_p30 hm, ↓zt_p31 hm, ↓zt_p32 hm, ↓zt_p33 hm, ↓zt_p34 hm, ↓zt_p35 hm, ↓zt_p36 hm, ↓zt_p40 hm, ↓zt_p19 hm, ↓zt_p20 hm, ↓zt_a1, ↓zt_a2, ↓zt_a3, ↓zt_a4, ↓zt_a5, ↓zt_a6, ↓zt_a7, ↓zt_a8, ↓zt_a9, ↓zt_a10, ↓zt_a11, ↓zt_a12, ↓zt_a13, ↓zt_a14, ↓zt_a15, ↓zt_a16, ↓zt_a17, ↓zt_a18, ↓zt_a19, ↓zt_a20, ↓zt_a21, ↓zt_s1 hm, ↓zt_s2 hm, ↓zt_s3 hm, ↓zt_s4 hm, ↓zt_s5 hm, ↓zt_s6 hm, ↓zt_s7 hm, ↓zt_s8 hm, ↓zt_s9 hm, ↓zt_s10 hm, ↓zt_s11 hm, ↓zt_s12 hm, ↓zt_s16 hm, ↓zt_s17 hm, ↓zt_s18 hm, ↓zt_s20 hm, ↓zt_s13 hm, ↓zt_s14 hm, ↓zt_s15 hm, ↓zt_s21 hm, ↓zt_l19, ↓zt_l17, forall_eq, ↓zqI_r, ↓zqL_r, ↓zqD_r, ↓zqF_r, ↓zqV_r, ↓zqR_r, ↓zqR_s, zboolb, zbool0, zbool1, true_and, and_true, h15]
      refine ⟨fun h9 => absurd h9 (nI_ge hp (by omega)), fun _ => ?_⟩
      refine zf3 0 k (fun q x s' => ∃ f, s' = zt_S σ m N ((M.sB jb w).sB 13 f) ∧ x = nI (if o < q then q - 1 else q) ∧ (∀ i q, i < p - 1 → q < k - 1 → f (25 * (k - 1 - 1) + 5 * i + q) = iL (zs_B g a r c (zk_sk o q) (i + 1) - zs_B g a r c (zk_sk o q) 0)) ∧ ∀ t, t < (if o < q then q - 1 else q) → f (25 * (k - 1 - 1) + 5 * (p - 1) + t) = iL (zs_B g a r c (zk_sk o t) p - zs_B g a r c (zk_sk o t) 0)) (by omega) ?_ ?_ ⟨f2, rfl, rfl, hf2, fun t ht => absurd ht (by rw [if_neg (by omega)]; omega)⟩
      · rintro rec3 q x s' _ hq ⟨f3, rfl, rfl, hf3, ht3⟩ hrec3
        have hkn : zt_kn a mm nn k r c ((M.sB jb w).sB 13 f3) := h
        have eqo : nI q = nI o ↔ q = o := nI_eq (by omega) (by omega)
        have ep : nI p - 1 = nI (p - 1) := zn_sub (b := 1) hp1
        have c1 : zCall G (n + 6) 204 = zCall G (n + 5 + 1) 204 := rfl
        have hc0 : ∀ {Q : zQ} {Y : zY}, zCall G (n + 6) 204 [.ref m, .int z, .int (nI q), .int 0] Q Y (zt_S σ m N ((M.sB jb w).sB 13 f3)) ↔ Q (some (.int (iI (zs_B g a r c q 0)))) (zt_S σ m N ((M.sB jb w).sB 13 f3)) := zl_cell (n := n + 5) hz hkn (x := q) (y := 0) hq (by omega)
        simp only [↓zt_rc, ↓zt_g0, ↓zt_g1, ↓zt_g2, ↓zt_g3, ↓zt_g4, ↓zt_g5, ↓zt_g6, ↓zt_g7, ↓zt_g8, ↓zt_g9, ↓zt_g10, ↓zt_g11, ↓zt_g12, ↓zt_g13, ↓zt_g14, ↓zt_g15, ↓zt_g16, ↓zt_g17, ↓zt_g18, ↓zt_g19, ↓zt_g20, ↓zt_g21, ↓zt_g22, ↓zt_g23, ↓zt_g24, ↓zt_g25, ↓zt_g26, ↓zt_g27, ↓zt_g28, ↓zt_g29, ↓zt_g30, ↓zt_g31, ↓zt_g32, ↓zt_g33, ↓zt_g34, ↓zt_g35, ↓zt_g36, ↓zt_g37, ↓zt_g38, ↓zt_g39, ↓zt_g40, ↓zt_p4 hm, ↓zt_p5 hm, ↓zt_p6 hm, ↓zt_p15 hm, ↓zt_p21 hm, ↓zt_p22 hm, ↓zt_p23 hm, ↓zt_p26 hm, ↓zt_p28 hm, ↓zt_p29 hm, ↓zt_p30 hm, ↓zt_p31 hm, ↓zt_p32 hm, ↓zt_p33 hm, ↓zt_p34 hm, ↓zt_p35 hm, ↓zt_p36 hm, ↓zt_p40 hm, ↓zt_p19 hm, ↓zt_p20 hm, ↓zt_a1, ↓zt_a2, ↓zt_a3, ↓zt_a4, ↓zt_a5, ↓zt_a6, ↓zt_a7, ↓zt_a8, ↓zt_a9, ↓zt_a10, ↓zt_a11, ↓zt_a12, ↓zt_a13, ↓zt_a14, ↓zt_a15, ↓zt_a16, ↓zt_a17, ↓zt_a18, ↓zt_a19, ↓zt_a20, ↓zt_a21, ↓zt_s1 hm, ↓zt_s2 hm, ↓zt_s3 hm, ↓zt_s4 hm, ↓zt_s5 hm, ↓zt_s6 hm, ↓zt_s7 hm, ↓zt_s8 hm, ↓zt_s9 hm, ↓zt_s10 hm, ↓zt_s11 hm, ↓zt_s12 hm, ↓zt_s16 hm, ↓zt_s17 hm, ↓zt_s18 hm, ↓zt_s20 hm, ↓zt_s13 hm, ↓zt_s14 hm, ↓zt_s15 hm, ↓zt_s21 hm, ↓zt_l19, ↓zt_l17, forall_eq, ↓zqI_r, ↓zqL_r, ↓zqD_r, ↓zqF_r, ↓zqV_r, ↓zqR_r, ↓zqR_s, zboolb, zbool0, zbool1, true_and, and_true, zJ, h15, eqo, eK, ep, ↓zl_297, eL, hL, ↓zl_203, ↓zl_cell hz hkn hq hp, ↓hc0, iI_sub]
        refine ⟨fun h9 => absurd h9 (nI_ge hq (by omega)), fun _ => ⟨fun he => hrec3 _ _ ⟨f3, rfl, ?_, hf3, ?_⟩, fun hne => ?_⟩⟩
        · rw [if_neg (by omega), if_pos (by omega)]
          exact congrArg nI (by omega)
        · rw [if_neg (by omega)] at ht3
          rw [if_pos (by omega)]
          intro t ht
          exact ht3 t (by omega)
        · have b1 := zs_B_b (g := g) h hq hp
          have b2 := zs_B_b (g := g) h hq (show 0 < k by omega)
          have hsk : zk_sk o (if o < q then q - 1 else q) = q := by
            unfold zk_sk
            by_cases h1 : o < q
            · rw [if_pos h1, if_neg (by omega)]; omega
            · rw [if_neg h1, if_pos (by omega)]
          have hT : (if o < q then q - 1 else q) < k - 1 := by
            by_cases h1 : o < q
            · rw [if_pos h1]; omega
            · rw [if_neg h1]; omega
          have hT1 : (if o < q then q - 1 else q) + 1 = (if o < q + 1 then q + 1 - 1 else q + 1) := by
            by_cases h1 : o < q
            · rw [if_pos h1, if_pos (by omega)]; omega
            · rw [if_neg h1, if_neg (by omega)]
          have ek2 : nI (k - 1) - 1 = nI (k - 1 - 1) := zn_sub (b := 1) (by omega)
          rw [ek2, zx_mat0, iI_L (by omega) (by omega)]
          generalize hTe : (if o < q then q - 1 else q) = T at *
          rw [nI_cl (by omega)]
          refine ⟨nI_i (by omega) (by omega), ?_⟩
          rw [zt_sB2]
          simp only [va_up_self]
          refine hrec3 _ _ ⟨_, rfl, by rw [← hT1, nI_1], ?_, ?_⟩
          · intro i t hi ht
            rw [va_up_ne _ _ (by omega)]
            exact hf3 i t hi ht
          · intro t ht
            rw [← hT1] at ht
            by_cases e : t = T
            · subst e
              rw [va_up_self, hsk]
            · rw [va_up_ne _ _ (by omega)]
              exact ht3 t (by omega)
      · rintro rec3 x s' ⟨f3, rfl, rfl, hf3, ht3⟩
        simp only [↓zt_rc, ↓zt_g0, ↓zt_g1, ↓zt_g2, ↓zt_g3, ↓zt_g4, ↓zt_g5, ↓zt_g6, ↓zt_g7, ↓zt_g8, ↓zt_g9, ↓zt_g10, ↓zt_g11, ↓zt_g12, ↓zt_g13, ↓zt_g14, ↓zt_g15, ↓zt_g16, ↓zt_g17, ↓zt_g18, ↓zt_g19, ↓zt_g20, ↓zt_g21, ↓zt_g22, ↓zt_g23, ↓zt_g24, ↓zt_g25, ↓zt_g26, ↓zt_g27, ↓zt_g28, ↓zt_g29, ↓zt_g30, ↓zt_g31, ↓zt_g32, ↓zt_g33, ↓zt_g34, ↓zt_g35, ↓zt_g36, ↓zt_g37, ↓zt_g38, ↓zt_g39, ↓zt_g40, ↓zt_p4 hm, ↓zt_p5 hm, ↓zt_p6 hm, ↓zt_p15 hm, ↓zt_p21 hm, ↓zt_p22 hm, ↓zt_p23 hm, ↓zt_p26 hm, ↓zt_p28 hm, ↓zt_p29 hm, ↓zt_p30 hm, ↓zt_p31 hm, ↓zt_p32 hm, ↓zt_p33 hm, ↓zt_p34 hm, ↓zt_p35 hm, ↓zt_p36 hm, ↓zt_p40 hm, ↓zt_p19 hm, ↓zt_p20 hm, ↓zt_a1, ↓zt_a2, ↓zt_a3, ↓zt_a4, ↓zt_a5, ↓zt_a6, ↓zt_a7, ↓zt_a8, ↓zt_a9, ↓zt_a10, ↓zt_a11, ↓zt_a12, ↓zt_a13, ↓zt_a14, ↓zt_a15, ↓zt_a16, ↓zt_a17, ↓zt_a18, ↓zt_a19, ↓zt_a20, ↓zt_a21, ↓zt_s1 hm, ↓zt_s2 hm, ↓zt_s3 hm, ↓zt_s4 hm, ↓zt_s5 hm, ↓zt_s6 hm, ↓zt_s7 hm, ↓zt_s8 hm, ↓zt_s9 hm, ↓zt_s10 hm, ↓zt_s11 hm, ↓zt_s12 hm, ↓zt_s16 hm, ↓zt_s17 hm, ↓zt_s18 hm, ↓zt_s20 hm, ↓zt_s13 hm, ↓zt_s14 hm, ↓zt_s15 hm, ↓zt_s21 hm, ↓zt_l19, ↓zt_l17, forall_eq, ↓zqI_r, ↓zqL_r, ↓zqD_r, ↓zqF_r, ↓zqV_r, ↓zqR_r, ↓zqR_s, zboolb, zbool0, zbool1, true_and, and_true, h15]
        refine ⟨fun _ => hrec2 _ ⟨f3, rfl, fun i t hi ht => ?_⟩, fun h9 => absurd (nI_le (Nat.le_refl _) (by omega)) h9⟩
        by_cases e : i = p - 1
        · subst e
          rw [if_pos ho] at ht3
          rw [ht3 t ht, show p - 1 + 1 = p by omega]
        · exact hf3 i t (by omega) ht
    · rintro rec2 s' ⟨f2, rfl, hf2⟩
      simp only [↓zt_rc, ↓zt_g0, ↓zt_g1, ↓zt_g2, ↓zt_g3, ↓zt_g4, ↓zt_g5, ↓zt_g6, ↓zt_g7, ↓zt_g8, ↓zt_g9, ↓zt_g10, ↓zt_g11, ↓zt_g12, ↓zt_g13, ↓zt_g14, ↓zt_g15, ↓zt_g16, ↓zt_g17, ↓zt_g18, ↓zt_g19, ↓zt_g20, ↓zt_g21, ↓zt_g22, ↓zt_g23, ↓zt_g24, ↓zt_g25, ↓zt_g26, ↓zt_g27, ↓zt_g28, ↓zt_g29, ↓zt_g30, ↓zt_g31, ↓zt_g32, ↓zt_g33, ↓zt_g34, ↓zt_g35, ↓zt_g36, ↓zt_g37, ↓zt_g38, ↓zt_g39, ↓zt_g40, ↓zt_p4 hm, ↓zt_p5 hm, ↓zt_p6 hm, ↓zt_p15 hm, ↓zt_p21 hm, ↓zt_p22 hm, ↓zt_p23 hm, ↓zt_p26 hm, ↓zt_p28 hm, ↓zt_p29 hm, ↓zt_p30 hm, ↓zt_p31 hm, ↓zt_p32 hm, ↓zt_p33 hm, ↓zt_p34 hm, ↓zt_p35 hm, ↓zt_p36 hm, ↓zt_p40 hm, ↓zt_p19 hm, ↓zt_p20 hm, ↓zt_a1, ↓zt_a2, ↓zt_a3, ↓zt_a4, ↓zt_a5, ↓zt_a6, ↓zt_a7, ↓zt_a8, ↓zt_a9, ↓zt_a10, ↓zt_a11, ↓zt_a12, ↓zt_a13, ↓zt_a14, ↓zt_a15, ↓zt_a16, ↓zt_a17, ↓zt_a18, ↓zt_a19, ↓zt_a20, ↓zt_a21, ↓zt_s1 hm, ↓zt_s2 hm, ↓zt_s3 hm, ↓zt_s4 hm, ↓zt_s5 hm, ↓zt_s6 hm, ↓zt_s7 hm, ↓zt_s8 hm, ↓zt_s9 hm, ↓zt_s10 hm, ↓zt_s11 hm, ↓zt_s12 hm, ↓zt_s16 hm, ↓zt_s17 hm, ↓zt_s18 hm, ↓zt_s20 hm, ↓zt_s13 hm, ↓zt_s14 hm, ↓zt_s15 hm, ↓zt_s21 hm, ↓zt_l19, ↓zt_l17, forall_eq, ↓zqI_r, ↓zqL_r, ↓zqD_r, ↓zqF_r, ↓zqV_r, ↓zqR_r, ↓zqR_s, zboolb, zbool0, zbool1, true_and, and_true, h15, eK]
      refine ⟨fun _ => ?_, fun h9 => absurd (nI_le (Nat.le_refl _) (by omega)) h9⟩
      have hn7 : n + 6 = (n + (5 - k)) + (k - 1) + 2 := by omega
      rw [hn7]
      refine zt_205 (M := M.sB jb w) hm (k - 1) (f := f2) (b := fun p q => zs_B g a r c (zk_sk o q) (p + 1) - zs_B g a r c (zk_sk o q) 0) (by omega) (fun p q hp hq => hf2 p q hp hq) (fun f4 _ => ?_)
      simp only [forall_eq, ↓zqI_r, ↓zqL_r, ↓zqD_r, ↓zqF_r, ↓zqV_r, ↓zqR_r, ↓zqR_s, zx_par o (by omega), iL_neg]
      refine ⟨by decide, ?_⟩
      have fin : ∀ v : Int64, v = iL (zs_X k (zs_B g a r c) o) → zsL (zt_S σ m N ((M.sB jb w).sB 13 f4)) G.1 (some (m + jb)) (nI o) v (fun s45 => zaL s45 (some (m + jb)) (nI o) (fun v53 => rec (iL (fb_si (zs_X k (zs_B g a r c)) o) + v53) (nI o + 1) s45)) := by
        intro v hv
        have eM : ((M.sB jb w).sB 13 f4) = ((M.sB 13 f4).sB jb w) := zt_sBc (by omega)
        have ew : ((M.sB jb w).sB 13 f4).2.2.2 jb = w := by
          rw [eM]
          exact va_up_self _ _ _
        refine (zt_sL (M' := (M.sB jb (va_up w o v)).sB 13 f4) hjlt (hcj _) ?_ ?_ hm).mpr ⟨nI_i (by omega) (by omega), ?_⟩
        · rw [hcj, nI_cl (by omega), ew]
          have eM2 : ((M.sB jb (va_up w o v)).sB 13 f4) = ((M.sB 13 f4).sB jb (va_up w o v)) := zt_sBc (by omega)
          rw [eM2]
          have : ((M.sB 13 f4).sB jb (va_up w o v)).2.2.2 jb = va_up w o v := va_up_self _ _ _
          rw [this]
        · intro q hq hne
          have eM2 : ((M.sB jb (va_up w o v)).sB 13 f4) = ((M.sB 13 f4).sB jb (va_up w o v)) := zt_sBc (by omega)
          rw [eM2, eM, zt_cB (M := M.sB 13 f4) (by omega) q hq hne, zt_cB (M := M.sB 13 f4) (by omega) q hq hne]
        · refine (zt_aL hjlt (hcj _)).mpr ⟨nI_i (by omega) (by omega), ?_⟩
          have eM2 : ((M.sB jb (va_up w o v)).sB 13 f4).2.2.2 jb = va_up w o v := by
            rw [zt_sBc (by omega)]
            exact va_up_self _ _ _
          rw [nI_cl (by omega), eM2, va_up_self, hv, iL_add]
          refine hrec _ _ ⟨_, _, rfl, rfl, fun q hq => ?_⟩
          by_cases e : q = o
          · subst e
            rw [va_up_self]
          · rw [va_up_ne _ _ e]
            exact hw q (by omega)
      refine ⟨fun hp => ?_, fun hp => ?_⟩
      · exact fin _ (by unfold zs_X zk_sg; rw [if_neg hp]; congr 1; omega)
      · exact fin _ (by unfold zs_X zk_sg; rw [if_pos hp]; congr 1; omega)
  · rintro rec x s' ⟨w, f, rfl, rfl, hw⟩
    simp only [↓zt_rc, ↓zt_g0, ↓zt_g1, ↓zt_g2, ↓zt_g3, ↓zt_g4, ↓zt_g5, ↓zt_g6, ↓zt_g7, ↓zt_g8, ↓zt_g9, ↓zt_g10, ↓zt_g11, ↓zt_g12, ↓zt_g13, ↓zt_g14, ↓zt_g15, ↓zt_g16, ↓zt_g17, ↓zt_g18, ↓zt_g19, ↓zt_g20, ↓zt_g21, ↓zt_g22, ↓zt_g23, ↓zt_g24, ↓zt_g25, ↓zt_g26, ↓zt_g27, ↓zt_g28, ↓zt_g29, ↓zt_g30, ↓zt_g31, ↓zt_g32, ↓zt_g33, ↓zt_g34, ↓zt_g35, ↓zt_g36, ↓zt_g37, ↓zt_g38, ↓zt_g39, ↓zt_g40, ↓zt_p4 hm, ↓zt_p5 hm, ↓zt_p6 hm, ↓zt_p15 hm, ↓zt_p21 hm, ↓zt_p22 hm, ↓zt_p23 hm, ↓zt_p26 hm, ↓zt_p28 hm, ↓zt_p29 hm, ↓zt_p30 hm, ↓zt_p31 hm, ↓zt_p32 hm, ↓zt_p33 hm, ↓zt_p34 hm, ↓zt_p35 hm, ↓zt_p36 hm, ↓zt_p40 hm, ↓zt_p19 hm, ↓zt_p20 hm, ↓zt_a1, ↓zt_a2, ↓zt_a3, ↓zt_a4, ↓zt_a5, ↓zt_a6, ↓zt_a7, ↓zt_a8, ↓zt_a9, ↓zt_a10, ↓zt_a11, ↓zt_a12, ↓zt_a13, ↓zt_a14, ↓zt_a15, ↓zt_a16, ↓zt_a17, ↓zt_a18, ↓zt_a19, ↓zt_a20, ↓zt_a21, ↓zt_s1 hm, ↓zt_s2 hm, ↓zt_s3 hm, ↓zt_s4 hm, ↓zt_s5 hm, ↓zt_s6 hm, ↓zt_s7 hm, ↓zt_s8 hm, ↓zt_s9 hm, ↓zt_s10 hm, ↓zt_s11 hm, ↓zt_s12 hm, ↓zt_s16 hm, ↓zt_s17 hm, ↓zt_s18 hm, ↓zt_s20 hm, ↓zt_s13 hm, ↓zt_s14 hm, ↓zt_s15 hm, ↓zt_s21 hm, ↓zt_l19, ↓zt_l17, forall_eq, ↓zqI_r, ↓zqL_r, ↓zqD_r, ↓zqF_r, ↓zqV_r, ↓zqR_r, ↓zqR_s, zboolb, zbool0, zbool1, true_and, and_true, h15]
    exact ⟨fun _ => hQ w f hw, fun h9 => absurd (nI_le (Nat.le_refl _) (by omega)) h9⟩
end ZTE
