/-! THE REFERENCE: kernels found -/
def zs_ka (V : zs_V) (i j : Nat) : Int := zs_po V (zs_li V true i) (zs_li V false j)
def zs_kx (V : zs_V) (g : Bool) (p q o : Nat) : Int := zs_X (zs_bc p 5) (zs_B g (zs_ka V) (zs_mb p) (zs_mb q)) o
def zs_ks (V : zs_V) (g : Bool) (p q : Nat) : Int := fb_si (zs_kx V g p q) (zs_bc p 5)
/-- a good kernel, as the reference sees it -/
def zs_gd (V : zs_V) (p q : Nat) : Prop := zs_ks V true p q ≠ 0 ∧ zs_ks V false p q ≠ 0 ∧ (∀ o, o < zs_bc p 5 → zs_sc (zs_ks V true p q) (zs_kx V true p q o)) ∧ (∀ o, o < zs_bc p 5 → zs_sc (zs_ks V false p q) (zs_kx V false p q o)) ∧ (∀ l, l < zs_lc V false → zs_sc (zs_ks V true p q) (zs_ab true (zs_ka V) (zs_mb p) (zs_mb q) (zs_bc p 5) (zs_kx V true p q) l)) ∧ ∀ l, l < zs_lc V true → zs_sc (zs_ks V false p q) (zs_ab false (zs_ka V) (zs_mb p) (zs_mb q) (zs_bc p 5) (zs_kx V false p q) l)
noncomputable def zs_gdb (V : zs_V) (p q : Nat) : Bool := @decide (zs_gd V p q) (Classical.propDecidable _)
theorem zs_gdb_iff {V : zs_V} {p q : Nat} : zs_gdb V p q = true ↔ zs_gd V p q := by
  unfold zs_gdb
  exact @decide_eq_true_iff _ (Classical.propDecidable _)
/-- kernels in order: the first good one, how many -/
abbrev zs_K : Type := Nat × Nat × Nat
noncomputable def zs_kst (V : zs_V) (k p q : Nat) (s : zs_K) : zs_K := if zs_bc p 5 = k ∧ zs_bc q 5 = k ∧ zs_gdb V p q = true then (if s.2.2 = 0 then p else s.1, if s.2.2 = 0 then q else s.2.1, s.2.2 + 1) else s
noncomputable def zs_kq (V : zs_V) (k p : Nat) : Nat → zs_K → zs_K
  | 0, s => s
  | q + 1, s => if q = 0 then s else zs_kst V k p q (zs_kq V k p q s)
noncomputable def zs_kp (V : zs_V) (k : Nat) : Nat → zs_K → zs_K
  | 0, s => s
  | p + 1, s => if p = 0 then s else zs_kq V k p (2 ^ zs_lc V false) (zs_kp V k p s)
noncomputable def zs_kk (V : zs_V) : Nat → zs_K
  | 0 => (0, 0, 0)
  | k + 1 => if k = 0 then (0, 0, 0) else zs_kp V k (2 ^ zs_lc V true) (zs_kk V k)
noncomputable def zs_kf6 (V : zs_V) : zs_K := zs_kk V 6
theorem zs_kst_le (V : zs_V) (k p q : Nat) (s : zs_K) : (zs_kst V k p q s).2.2 ≤ s.2.2 + 1 := by
  unfold zs_kst
  by_cases h : zs_bc p 5 = k ∧ zs_bc q 5 = k ∧ zs_gdb V p q = true
  · rw [if_pos h]; exact Nat.le_refl _
  · rw [if_neg h]; omega
theorem zs_kq_le (V : zs_V) (k p : Nat) : ∀ q s, (zs_kq V k p q s).2.2 ≤ s.2.2 + q
  | 0, s => by simp [zs_kq]
  | q + 1, s => by
    have ih := zs_kq_le V k p q s
    simp only [zs_kq]
    by_cases h : q = 0
    · rw [if_pos h]; omega
    · rw [if_neg h]
      have := zs_kst_le V k p q (zs_kq V k p q s)
      omega
theorem zs_kp_le (V : zs_V) (h5 : 2 ^ zs_lc V false ≤ 32) (k : Nat) : ∀ p s, (zs_kp V k p s).2.2 ≤ s.2.2 + 32 * p
  | 0, s => by simp [zs_kp]
  | p + 1, s => by
    have ih := zs_kp_le V h5 k p s
    simp only [zs_kp]
    by_cases h : p = 0
    · rw [if_pos h]; omega
    · rw [if_neg h]
      have := zs_kq_le V k p (2 ^ zs_lc V false) (zs_kp V k p s)
      omega
theorem zs_kk_le (V : zs_V) (h5 : 2 ^ zs_lc V false ≤ 32) (h6 : 2 ^ zs_lc V true ≤ 32) : ∀ k, (zs_kk V k).2.2 ≤ 1024 * k
  | 0 => by simp [zs_kk]
  | k + 1 => by
    have ih := zs_kk_le V h5 h6 k
    simp only [zs_kk]
    by_cases h : k = 0
    · rw [if_pos h]; show 0 ≤ _; omega
    · rw [if_neg h]
      have := zs_kp_le V h5 k (2 ^ zs_lc V true) (zs_kk V k)
      omega
/-- what changes where kernels are looked for -/
def zt_kx (M M' : zt_M) : Prop := (∀ k, k ≠ 15 → k ≠ 21 → k ≠ 22 → k ≠ 23 → M'.1 k = M.1 k) ∧ ∀ j, j ≠ 10 → j ≠ 11 → j ≠ 12 → M'.2.2.1 j = M.2.2.1 j
theorem zt_kx.trans {M M' M'' : zt_M} (h : zt_kx M M') (h' : zt_kx M' M'') : zt_kx M M'' := ⟨fun k a b c d => (h'.1 k a b c d).trans (h.1 k a b c d), fun j a b c => (h'.2 j a b c).trans (h.2 j a b c)⟩
theorem zt_kx.rfl' {M : zt_M} : zt_kx M M := ⟨fun _ _ _ _ _ => rfl, fun _ _ _ _ => rfl⟩
theorem zt_kx.i {M : zt_M} {j : Nat} {x : Int32} (h : j = 15 ∨ j = 21 ∨ j = 22 ∨ j = 23) : zt_kx M (M.sI j x) := ⟨fun k a b c d => va_up_ne _ _ (by omega), fun _ _ _ _ => rfl⟩
theorem zt_kx.a {M : zt_M} {j : Nat} {f : Nat → Int32} (h : j = 10 ∨ j = 11 ∨ j = 12) : zt_kx M (M.sA j f) := ⟨fun _ _ _ _ _ => rfl, fun k a b c => va_up_ne _ _ (by omega)⟩
theorem zt_pe.kx {t : Int32} {M M' M'' : zt_M} (h : zt_pe t M M') (h' : zt_kx M' M'') : zt_pe t M M'' := ⟨(h'.1 5 (by omega) (by omega) (by omega) (by omega)).trans h.1, fun k hk => (h'.1 k (by omega) (by omega) (by omega) (by omega)).trans (h.2.1 k hk), fun j hj => (h'.2 j (by omega) (by omega) (by omega)).trans (h.2.2 j hj)⟩
def zt_tbl (V : zs_V) (M : zt_M) : Prop := ∀ i j, i < zs_lc V true → j < zs_lc V false → M.2.2.1 10 (5 * i + j) = iI (zs_ka V i j)
/-- a kernel's weights are laid -/
def zt_kl (V : zs_V) (p q : Nat) (M : zt_M) : Prop := zt_kn (zs_ka V) (zs_lc V true) (zs_lc V false) (zs_bc p 5) (zs_mb p) (zs_mb q) M ∧ (∀ o, o < zs_bc p 5 → M.2.2.2 14 o = iL (zs_kx V true p q o)) ∧ (∀ o, o < zs_bc p 5 → M.2.2.2 15 o = iL (zs_kx V false p q o)) ∧ M.2.1 19 = iL (zs_ks V true p q) ∧ M.2.1 20 = iL (zs_ks V false p q)
section ZTG
variable {G : zPg} {n : Nat} {σ : zS} {m : Nat} {N : Nat → Option Nat} {M M0 : zt_M} {Q : zQ} {Y : zY} {V : zs_V}
theorem zl_cnt1 (hM : M.2.2.1 1 = V) (hV : zs_ok V) : zCall G (n + 2) 189 [.ref m, .int 1] Q Y (zt_S σ m N M) ↔ Q (some (.int (nI (zs_lc V true)))) (zt_S σ m N M) := by
  rw [zl_189, (zx_ci (b := true) (x := 1) (by decide)).2.1, hM, (hV.lc true).1]
theorem zl_cnt0 (hM : M.2.2.1 1 = V) (hV : zs_ok V) : zCall G (n + 2) 189 [.ref m, .int 0] Q Y (zt_S σ m N M) ↔ Q (some (.int (nI (zs_lc V false)))) (zt_S σ m N M) := by
  rw [zl_189, (zx_ci (b := false) (x := 0) (by decide)).2.1, hM, (hV.lc false).1]
theorem zt_199 (hm : G.1 ≤ m) (hM : M.2.2.1 1 = V) (hV : zs_ok V) (h : ∀ f, zt_tbl V (M.sA 10 f) → Q none (zt_S σ m N (M.sA 10 f))) : zCall G (n + 5) 199 [.ref m] Q Y (zt_S σ m N M) := by
  have l1 := hV.lc true
  have l2 := hV.lc false
  refine ze199 ⟨_, rfl, ?_⟩
  refine zf2 0 (zs_lc V true) (fun i s' => ∃ f, s' = zt_S σ m N (M.sA 10 f) ∧ ∀ i' j, i' < i → j < zs_lc V false → f (5 * i' + j) = iI (zs_ka V i' j)) (by omega) ?_ ?_ ⟨M.2.2.1 10, by unfold zt_M.sA; rw [zt_up0], fun i' j h => absurd h (by omega)⟩
  · rintro rec i s' _ hi ⟨f, rfl, hf⟩ hrec
    have e1 : (M.sA 10 f).2.2.1 1 = V := hM
    simp only [↓zt_rc, ↓zt_g0, ↓zt_g1, ↓zt_g2, ↓zt_g3, ↓zt_g4, ↓zt_g5, ↓zt_g6, ↓zt_g7, ↓zt_g8, ↓zt_g9, ↓zt_g10, ↓zt_g11, ↓zt_g12, ↓zt_g13, ↓zt_g14, ↓zt_g15, ↓zt_g16, ↓zt_g17, ↓zt_g18, ↓zt_g19, ↓zt_g20, ↓zt_g21, ↓zt_g22, ↓zt_g23, ↓zt_g24, ↓zt_g25, ↓zt_g26, ↓zt_g27, ↓zt_g28, ↓zt_g29, ↓zt_g30, ↓zt_g31, ↓zt_g32, ↓zt_g33, ↓zt_g34, ↓zt_g35, ↓zt_g36, ↓zt_g37, ↓zt_g38, ↓zt_g39, ↓zt_g40, ↓zt_p4 hm, ↓zt_p5 hm, ↓zt_p6 hm, ↓zt_p15 hm, ↓zt_p21 hm, ↓zt_p22 hm, ↓zt_p23 hm, ↓zt_p26 hm, ↓zt_p28 hm, ↓zt_p29 hm, ↓zt_p30 hm, ↓zt_p31 hm, ↓zt_p32 hm, ↓zt_p33 hm, ↓zt_p34 hm, ↓zt_p35 hm, ↓zt_p36 hm, ↓zt_p40 hm, ↓zt_p19 hm, ↓zt_p20 hm, ↓zt_a1, ↓zt_a2, ↓zt_a3, ↓zt_a4, ↓zt_a5, ↓zt_a6, ↓zt_a7, ↓zt_a8, ↓zt_a9, ↓zt_a10, ↓zt_a11, ↓zt_a12, ↓zt_a13, ↓zt_a14, ↓zt_a15, ↓zt_a16, ↓zt_a17, ↓zt_a18, ↓zt_a19, ↓zt_a20, ↓zt_a21, ↓zt_s1 hm, ↓zt_s2 hm, ↓zt_s3 hm, ↓zt_s4 hm, ↓zt_s5 hm, ↓zt_s6 hm, ↓zt_s7 hm, ↓zt_s8 hm, ↓zt_s9 hm, ↓zt_s10 hm, ↓zt_s11 hm, ↓zt_s12 hm, ↓zt_s16 hm, ↓zt_s17 hm, ↓zt_s18 hm, ↓zt_s20 hm, ↓zt_s13 hm, ↓zt_s14 hm, ↓zt_s15 hm, ↓zt_s21 hm, ↓zt_l19, ↓zt_l17, forall_eq, ↓zqI_r, ↓zqL_r, ↓zqD_r, ↓zqF_r, ↓zqV_r, ↓zqR_r, ↓zqR_s, zboolb, zbool0, zbool1, true_and, and_true, ↓zl_cnt1 e1 hV]
    refine ⟨fun h9 => absurd h9 (nI_ge hi (by omega)), fun _ => ?_⟩
    refine zf2 0 (zs_lc V false) (fun j s' => ∃ f, s' = zt_S σ m N (M.sA 10 f) ∧ (∀ i' j, i' < i → j < zs_lc V false → f (5 * i' + j) = iI (zs_ka V i' j)) ∧ ∀ j', j' < j → f (5 * i + j') = iI (zs_ka V i j')) (by omega) ?_ ?_ ⟨f, rfl, hf, fun j' h => absurd h (by omega)⟩
    · rintro rec2 j s' _ hj ⟨f2, rfl, hf2, hj2⟩ hrec2
      have e1 : (M.sA 10 f2).2.2.1 1 = V := hM
      simp only [↓zt_rc, ↓zt_g0, ↓zt_g1, ↓zt_g2, ↓zt_g3, ↓zt_g4, ↓zt_g5, ↓zt_g6, ↓zt_g7, ↓zt_g8, ↓zt_g9, ↓zt_g10, ↓zt_g11, ↓zt_g12, ↓zt_g13, ↓zt_g14, ↓zt_g15, ↓zt_g16, ↓zt_g17, ↓zt_g18, ↓zt_g19, ↓zt_g20, ↓zt_g21, ↓zt_g22, ↓zt_g23, ↓zt_g24, ↓zt_g25, ↓zt_g26, ↓zt_g27, ↓zt_g28, ↓zt_g29, ↓zt_g30, ↓zt_g31, ↓zt_g32, ↓zt_g33, ↓zt_g34, ↓zt_g35, ↓zt_g36, ↓zt_g37, ↓zt_g38, ↓zt_g39, ↓zt_g40, ↓zt_p4 hm, ↓zt_p5 hm, ↓zt_p6 hm, ↓zt_p15 hm, ↓zt_p21 hm, ↓zt_p22 hm, ↓zt_p23 hm, ↓zt_p26 hm, ↓zt_p28 hm, ↓zt_p29 hm, ↓zt_p30 hm, ↓zt_p31 hm, ↓zt_p32 hm, ↓zt_p33 hm, ↓zt_p34 hm, ↓zt_p35 hm, ↓zt_p36 hm, ↓zt_p40 hm, ↓zt_p19 hm, ↓zt_p20 hm, ↓zt_a1, ↓zt_a2, ↓zt_a3, ↓zt_a4, ↓zt_a5, ↓zt_a6, ↓zt_a7, ↓zt_a8, ↓zt_a9, ↓zt_a10, ↓zt_a11, ↓zt_a12, ↓zt_a13, ↓zt_a14, ↓zt_a15, ↓zt_a16, ↓zt_a17, ↓zt_a18, ↓zt_a19, ↓zt_a20, ↓zt_a21, ↓zt_s1 hm, ↓zt_s2 hm, ↓zt_s3 hm, ↓zt_s4 hm, ↓zt_s5 hm, ↓zt_s6 hm, ↓zt_s7 hm, ↓zt_s8 hm, ↓zt_s9 hm, ↓zt_s10 hm, ↓zt_s11 hm, ↓zt_s12 hm, ↓zt_s16 hm, ↓zt_s17 hm, ↓zt_s18 hm, ↓zt_s20 hm, ↓zt_s13 hm, ↓zt_s14 hm, ↓zt_s15 hm, ↓zt_s21 hm, ↓zt_l19, ↓zt_l17, forall_eq, ↓zqI_r, ↓zqL_r, ↓zqD_r, ↓zqF_r, ↓zqV_r, ↓zqR_r, ↓zqR_s, zboolb, zbool0, zbool1, true_and, and_true, ↓zl_cnt0 e1 hV]
      refine ⟨fun h9 => absurd h9 (nI_ge hj (by omega)), fun _ => ?_⟩
      refine zt_194 e1 hV hi hj ?_
      simp only [↓zt_rc, ↓zt_g0, ↓zt_g1, ↓zt_g2, ↓zt_g3, ↓zt_g4, ↓zt_g5, ↓zt_g6, ↓zt_g7, ↓zt_g8, ↓zt_g9, ↓zt_g10, ↓zt_g11, ↓zt_g12, ↓zt_g13, ↓zt_g14, ↓zt_g15, ↓zt_g16, ↓zt_g17, ↓zt_g18, ↓zt_g19, ↓zt_g20, ↓zt_g21, ↓zt_g22, ↓zt_g23, ↓zt_g24, ↓zt_g25, ↓zt_g26, ↓zt_g27, ↓zt_g28, ↓zt_g29, ↓zt_g30, ↓zt_g31, ↓zt_g32, ↓zt_g33, ↓zt_g34, ↓zt_g35, ↓zt_g36, ↓zt_g37, ↓zt_g38, ↓zt_g39, ↓zt_g40, ↓zt_p4 hm, ↓zt_p5 hm, ↓zt_p6 hm, ↓zt_p15 hm, ↓zt_p21 hm, ↓zt_p22 hm, ↓zt_p23 hm, ↓zt_p26 hm, ↓zt_p28 hm, ↓zt_p29 hm, ↓zt_p30 hm, ↓zt_p31 hm, ↓zt_p32 hm, ↓zt_p33 hm, ↓zt_p34 hm, ↓zt_p35 hm, ↓zt_p36 hm, ↓zt_p40 hm, ↓zt_p19 hm, ↓zt_p20 hm, ↓zt_a1, ↓zt_a2, ↓zt_a3, ↓zt_a4, ↓zt_a5, ↓zt_a6, ↓zt_a7, ↓zt_a8, ↓zt_a9, ↓zt_a10, ↓zt_a11, ↓zt_a12, ↓zt_a13, ↓zt_a14, ↓zt_a15, ↓zt_a16, ↓zt_a17, ↓zt_a18, ↓zt_a19, ↓zt_a20, ↓zt_a21, ↓zt_s1 hm, ↓zt_s2 hm, ↓zt_s3 hm, ↓zt_s4 hm, ↓zt_s5 hm, ↓zt_s6 hm, ↓zt_s7 hm, ↓zt_s8 hm, ↓zt_s9 hm, ↓zt_s10 hm, ↓zt_s11 hm, ↓zt_s12 hm, ↓zt_s16 hm, ↓zt_s17 hm, ↓zt_s18 hm, ↓zt_s20 hm, ↓zt_s13 hm, ↓zt_s14 hm, ↓zt_s15 hm, ↓zt_s21 hm, ↓zt_l19, ↓zt_l17, forall_eq, ↓zqI_r, ↓zqL_r, ↓zqD_r, ↓zqF_r, ↓zqV_r, ↓zqR_r, ↓zqR_s, zboolb, zbool0, zbool1, true_and, and_true, zx_5, nI_cl (show 5 * i + j < 2147483648 by omega), va_up_self]
      refine ⟨nI_i (by omega) (by omega), ?_⟩
      rw [zt_sA2]
      refine hrec2 _ ⟨_, rfl, fun i' j' hi' hj' => ?_, fun j' hj' => ?_⟩
      · rw [va_up_ne _ _ (by omega)]
        exact hf2 i' j' hi' hj'
      · by_cases e : j' = j
        · subst e
          rw [va_up_self]
          rfl
        · rw [va_up_ne _ _ (by omega)]
          exact hj2 j' (by omega)
    · rintro rec2 s' ⟨f2, rfl, hf2, hj2⟩
      have e1 : (M.sA 10 f2).2.2.1 1 = V := hM
      simp only [↓zt_rc, ↓zt_g0, ↓zt_g1, ↓zt_g2, ↓zt_g3, ↓zt_g4, ↓zt_g5, ↓zt_g6, ↓zt_g7, ↓zt_g8, ↓zt_g9, ↓zt_g10, ↓zt_g11, ↓zt_g12, ↓zt_g13, ↓zt_g14, ↓zt_g15, ↓zt_g16, ↓zt_g17, ↓zt_g18, ↓zt_g19, ↓zt_g20, ↓zt_g21, ↓zt_g22, ↓zt_g23, ↓zt_g24, ↓zt_g25, ↓zt_g26, ↓zt_g27, ↓zt_g28, ↓zt_g29, ↓zt_g30, ↓zt_g31, ↓zt_g32, ↓zt_g33, ↓zt_g34, ↓zt_g35, ↓zt_g36, ↓zt_g37, ↓zt_g38, ↓zt_g39, ↓zt_g40, ↓zt_p4 hm, ↓zt_p5 hm, ↓zt_p6 hm, ↓zt_p15 hm, ↓zt_p21 hm, ↓zt_p22 hm, ↓zt_p23 hm, ↓zt_p26 hm, ↓zt_p28 hm, ↓zt_p29 hm, ↓zt_p30 hm, ↓zt_p31 hm, ↓zt_p32 hm, ↓zt_p33 hm, ↓zt_p34 hm, ↓zt_p35 hm, ↓zt_p36 hm, ↓zt_p40 hm, ↓zt_p19 hm, ↓zt_p20 hm, ↓zt_a1, ↓zt_a2, ↓zt_a3, ↓zt_a4, ↓zt_a5, ↓zt_a6, ↓zt_a7, ↓zt_a8, ↓zt_a9, ↓zt_a10, ↓zt_a11, ↓zt_a12, ↓zt_a13, ↓zt_a14, ↓zt_a15, ↓zt_a16, ↓zt_a17, ↓zt_a18, ↓zt_a19, ↓zt_a20, ↓zt_a21, ↓zt_s1 hm, ↓zt_s2 hm, ↓zt_s3 hm, ↓zt_s4 hm, ↓zt_s5 hm, ↓zt_s6 hm, ↓zt_s7 hm, ↓zt_s8 hm, ↓zt_s9 hm, ↓zt_s10 hm, ↓zt_s11 hm, ↓zt_s12 hm, ↓zt_s16 hm, ↓zt_s17 hm, ↓zt_s18 hm, ↓zt_s20 hm, ↓zt_s13 hm, ↓zt_s14 hm, ↓zt_s15 hm, ↓zt_s21 hm, ↓zt_l19, ↓zt_l17, forall_eq, ↓zqI_r, ↓zqL_r, ↓zqD_r, ↓zqF_r, ↓zqV_r, ↓zqR_r, ↓zqR_s, zboolb, zbool0, zbool1, true_and, and_true, ↓zl_cnt0 e1 hV]
      refine ⟨fun _ => hrec _ ⟨f2, rfl, fun i' j hi' hj => ?_⟩, fun h9 => absurd (nI_le (Nat.le_refl _) (by omega)) h9⟩
      by_cases e : i' = i
      · subst e
        exact hj2 j hj
      · exact hf2 i' j (by omega) hj
  · rintro rec s' ⟨f, rfl, hf⟩
    have e1 : (M.sA 10 f).2.2.1 1 = V := hM
    simp only [↓zt_rc, ↓zt_g0, ↓zt_g1, ↓zt_g2, ↓zt_g3, ↓zt_g4, ↓zt_g5, ↓zt_g6, ↓zt_g7, ↓zt_g8, ↓zt_g9, ↓zt_g10, ↓zt_g11, ↓zt_g12, ↓zt_g13, ↓zt_g14, ↓zt_g15, ↓zt_g16, ↓zt_g17, ↓zt_g18, ↓zt_g19, ↓zt_g20, ↓zt_g21, ↓zt_g22, ↓zt_g23, ↓zt_g24, ↓zt_g25, ↓zt_g26, ↓zt_g27, ↓zt_g28, ↓zt_g29, ↓zt_g30, ↓zt_g31, ↓zt_g32, ↓zt_g33, ↓zt_g34, ↓zt_g35, ↓zt_g36, ↓zt_g37, ↓zt_g38, ↓zt_g39, ↓zt_g40, ↓zt_p4 hm, ↓zt_p5 hm, ↓zt_p6 hm, ↓zt_p15 hm, ↓zt_p21 hm, ↓zt_p22 hm, ↓zt_p23 hm, ↓zt_p26 hm, ↓zt_p28 hm, ↓zt_p29 hm, ↓zt_p30 hm, ↓zt_p31 hm, ↓zt_p32 hm, ↓zt_p33 hm, ↓zt_p34 hm, ↓zt_p35 hm, ↓zt_p36 hm, ↓zt_p40 hm, ↓zt_p19 hm, ↓zt_p20 hm, ↓zt_a1, ↓zt_a2, ↓zt_a3, ↓zt_a4, ↓zt_a5, ↓zt_a6, ↓zt_a7, ↓zt_a8, ↓zt_a9, ↓zt_a10, ↓zt_a11, ↓zt_a12, ↓zt_a13, ↓zt_a14, ↓zt_a15, ↓zt_a16, ↓zt_a17, ↓zt_a18, ↓zt_a19, ↓zt_a20, ↓zt_a21, ↓zt_s1 hm, ↓zt_s2 hm, ↓zt_s3 hm, ↓zt_s4 hm, ↓zt_s5 hm, ↓zt_s6 hm, ↓zt_s7 hm, ↓zt_s8 hm, ↓zt_s9 hm, ↓zt_s10 hm, ↓zt_s11 hm, ↓zt_s12 hm, ↓zt_s16 hm, ↓zt_s17 hm, ↓zt_s18 hm, ↓zt_s20 hm, ↓zt_s13 hm, ↓zt_s14 hm, ↓zt_s15 hm, ↓zt_s21 hm, ↓zt_l19, ↓zt_l17, forall_eq, ↓zqI_r, ↓zqL_r, ↓zqD_r, ↓zqF_r, ↓zqV_r, ↓zqR_r, ↓zqR_s, zboolb, zbool0, zbool1, true_and, and_true, ↓zl_cnt1 e1 hV]
    exact ⟨fun _ => h f (fun i j hi hj => by rw [zt_sAj]; exact hf i j hi hj), fun h9 => absurd (nI_le (Nat.le_refl _) (by omega)) h9⟩
theorem zs_mem_lt {R mm i : Nat} (hR : R < 2 ^ mm) (hm : mm ≤ 5) (hi : i < zs_bc R 5) : zs_mb R i < mm := by
  have h32 : R < 32 := by
    have : 2 ^ mm ≤ 2 ^ 5 := Nat.pow_le_pow_right (by omega) hm
    omega
  obtain ⟨h1, h2, h3⟩ := zs_mb_lt R h32 i (Nat.lt_of_lt_of_le hi (fb_ct_le _ _)) hi
  refine Classical.byContradiction fun hn => ?_
  have : R.testBit (zs_mb R i) = false := by
    refine Nat.testBit_lt_two_pow (Nat.lt_of_lt_of_le hR ?_)
    exact Nat.pow_le_pow_right (by omega) (by omega)
  rw [this] at h2
  cases h2
theorem zs_p32 {V : zs_V} (h : zs_ok V) (b : Bool) : 2 ^ zs_lc V b ≤ 32 := by
  have : 2 ^ zs_lc V b ≤ 2 ^ 5 := Nat.pow_le_pow_right (by omega) (h.lc b).2
  omega
theorem zt_200 (hm : G.1 ≤ m) (hM : M.2.2.1 1 = V) (hV : zs_ok V) (ht : zt_tbl V M) {p q : Nat} (hp : p < 2 ^ zs_lc V true) (hq : q < 2 ^ zs_lc V false) (hpq : zs_bc p 5 = zs_bc q 5) (hk : 1 ≤ zs_bc p 5) (h1 : zs_gd V p q → ∀ M', zt_kx M M' → zt_tbl V M' → (∀ k, k ≠ 15 → M'.1 k = M.1 k) → zt_kl V p q M' → Q (some (.int 1)) (zt_S σ m N M')) (h0 : ¬ zs_gd V p q → ∀ M', zt_kx M M' → zt_tbl V M' → (∀ k, k ≠ 15 → M'.1 k = M.1 k) → Q (some (.int 0)) (zt_S σ m N M')) : zCall G (n + 8) 200 [.ref m, .int (nI p), .int (nI q)] Q Y (zt_S σ m N M) := by
  have p1 := zs_p32 hV true
  have p2 := zs_p32 hV false
  have l1 := hV.lc true
  have l2 := hV.lc false
  have hle5 : zs_bc p 5 ≤ 5 := fb_ct_le _ _
  refine ze200 ⟨_, _, _, rfl, ?_⟩
  simp only [↓zt_rc, ↓zt_g0, ↓zt_g1, ↓zt_g2, ↓zt_g3, ↓zt_g4, ↓zt_g5, ↓zt_g6, ↓zt_g7, ↓zt_g8, ↓zt_g9, ↓zt_g10, ↓zt_g11, ↓zt_g12, ↓zt_g13, ↓zt_g14, ↓zt_g15, ↓zt_g16, ↓zt_g17, ↓zt_g18, ↓zt_g19, ↓zt_g20, ↓zt_g21, ↓zt_g22, ↓zt_g23, ↓zt_g24, ↓zt_g25, ↓zt_g26, ↓zt_g27, ↓zt_g28, ↓zt_g29, ↓zt_g30, ↓zt_g31, ↓zt_g32, ↓zt_g33, ↓zt_g34, ↓zt_g35, ↓zt_g36, ↓zt_g37, ↓zt_g38, ↓zt_g39, ↓zt_g40, ↓zt_p4 hm, ↓zt_p5 hm, ↓zt_p6 hm, ↓zt_p15 hm, ↓zt_p21 hm, ↓zt_p22 hm, ↓zt_p23 hm, ↓zt_p26 hm, ↓zt_p28 hm, ↓zt_p29 hm, ↓zt_p30 hm, ↓zt_p31 hm, ↓zt_p32 hm, ↓zt_p33 hm, ↓zt_p34 hm, ↓zt_p35 hm, ↓zt_p36 hm, ↓zt_p40 hm, ↓zt_p19 hm, ↓zt_p20 hm, ↓zt_a1, ↓zt_a2, ↓zt_a3, ↓zt_a4, ↓zt_a5, ↓zt_a6, ↓zt_a7, ↓zt_a8, ↓zt_a9, ↓zt_a10, ↓zt_a11, ↓zt_a12, ↓zt_a13, ↓zt_a14, ↓zt_a15, ↓zt_a16, ↓zt_a17, ↓zt_a18, ↓zt_a19, ↓zt_a20, ↓zt_a21, ↓zt_s1 hm, ↓zt_s2 hm, ↓zt_s3 hm, ↓zt_s4 hm, ↓zt_s5 hm, ↓zt_s6 hm, ↓zt_s7 hm, ↓zt_s8 hm, ↓zt_s9 hm, ↓zt_s10 hm, ↓zt_s11 hm, ↓zt_s12 hm, ↓zt_s16 hm, ↓zt_s17 hm, ↓zt_s18 hm, ↓zt_s20 hm, ↓zt_s13 hm, ↓zt_s14 hm, ↓zt_s15 hm, ↓zt_s21 hm, ↓zt_l19, ↓zt_l17, forall_eq, ↓zqI_r, ↓zqL_r, ↓zqD_r, ↓zqF_r, ↓zqV_r, ↓zqR_r, ↓zqR_s, zboolb, zbool0, zbool1, true_and, and_true, ↓zl_433, zs_pc32 p (by omega)]
  refine zt_201 (j := 11) hm (Or.inl rfl) (by omega) (fun fr hfr => ?_)
  simp only [↓zt_rc, ↓zt_g0, ↓zt_g1, ↓zt_g2, ↓zt_g3, ↓zt_g4, ↓zt_g5, ↓zt_g6, ↓zt_g7, ↓zt_g8, ↓zt_g9, ↓zt_g10, ↓zt_g11, ↓zt_g12, ↓zt_g13, ↓zt_g14, ↓zt_g15, ↓zt_g16, ↓zt_g17, ↓zt_g18, ↓zt_g19, ↓zt_g20, ↓zt_g21, ↓zt_g22, ↓zt_g23, ↓zt_g24, ↓zt_g25, ↓zt_g26, ↓zt_g27, ↓zt_g28, ↓zt_g29, ↓zt_g30, ↓zt_g31, ↓zt_g32, ↓zt_g33, ↓zt_g34, ↓zt_g35, ↓zt_g36, ↓zt_g37, ↓zt_g38, ↓zt_g39, ↓zt_g40, ↓zt_p4 hm, ↓zt_p5 hm, ↓zt_p6 hm, ↓zt_p15 hm, ↓zt_p21 hm, ↓zt_p22 hm, ↓zt_p23 hm, ↓zt_p26 hm, ↓zt_p28 hm, ↓zt_p29 hm, ↓zt_p30 hm, ↓zt_p31 hm, ↓zt_p32 hm, ↓zt_p33 hm, ↓zt_p34 hm, ↓zt_p35 hm, ↓zt_p36 hm, ↓zt_p40 hm, ↓zt_p19 hm, ↓zt_p20 hm, ↓zt_a1, ↓zt_a2, ↓zt_a3, ↓zt_a4, ↓zt_a5, ↓zt_a6, ↓zt_a7, ↓zt_a8, ↓zt_a9, ↓zt_a10, ↓zt_a11, ↓zt_a12, ↓zt_a13, ↓zt_a14, ↓zt_a15, ↓zt_a16, ↓zt_a17, ↓zt_a18, ↓zt_a19, ↓zt_a20, ↓zt_a21, ↓zt_s1 hm, ↓zt_s2 hm, ↓zt_s3 hm, ↓zt_s4 hm, ↓zt_s5 hm, ↓zt_s6 hm, ↓zt_s7 hm, ↓zt_s8 hm, ↓zt_s9 hm, ↓zt_s10 hm, ↓zt_s11 hm, ↓zt_s12 hm, ↓zt_s16 hm, ↓zt_s17 hm, ↓zt_s18 hm, ↓zt_s20 hm, ↓zt_s13 hm, ↓zt_s14 hm, ↓zt_s15 hm, ↓zt_s21 hm, ↓zt_l19, ↓zt_l17, forall_eq, ↓zqI_r, ↓zqL_r, ↓zqD_r, ↓zqF_r, ↓zqV_r, ↓zqR_r, ↓zqR_s, zboolb, zbool0, zbool1, true_and, and_true]
  refine zt_201 (j := 12) hm (Or.inr rfl) (by omega) (fun fc hfc => ?_)
  generalize hM3 : (((M.sI 15 (nI (zs_bc p 5))).sA 11 fr).sA 12 fc) = M3
  have kx3 : zt_kx M M3 := by
    rw [← hM3]
    exact ((zt_kx.i (by omega)).trans (zt_kx.a (by omega))).trans (zt_kx.a (by omega))
  have i3 : ∀ k, k ≠ 15 → M3.1 k = M.1 k := by
    rw [← hM3]
    exact fun k hk => va_up_ne _ _ hk
  have t3 : zt_tbl V M3 := by
    rw [← hM3]
    exact ht
  have e3 : M3.2.2.1 1 = V := by
    rw [← hM3]
    exact hM
  have kn3 : zt_kn (zs_ka V) (zs_lc V true) (zs_lc V false) (zs_bc p 5) (zs_mb p) (zs_mb q) M3 := by
    refine ⟨hle5, l1.2, l2.2, ?_, fun i hi => ⟨?_, zs_mem_lt hp l1.2 hi⟩, fun j hj => ⟨?_, zs_mem_lt hq l2.2 (by omega)⟩, fun i j hi hj => ⟨t3 i j hi hj, zs_po_b hV _ _⟩⟩
    · rw [← hM3]
      show va_up M.1 15 (nI (zs_bc p 5)) 15 = _
      exact va_up_self _ _ _
    · rw [← hM3]
      exact hfr i hi
    · rw [← hM3]
      exact hfc j (by omega)
  clear hM3
  simp only [↓zt_rc, ↓zt_g0, ↓zt_g1, ↓zt_g2, ↓zt_g3, ↓zt_g4, ↓zt_g5, ↓zt_g6, ↓zt_g7, ↓zt_g8, ↓zt_g9, ↓zt_g10, ↓zt_g11, ↓zt_g12, ↓zt_g13, ↓zt_g14, ↓zt_g15, ↓zt_g16, ↓zt_g17, ↓zt_g18, ↓zt_g19, ↓zt_g20, ↓zt_g21, ↓zt_g22, ↓zt_g23, ↓zt_g24, ↓zt_g25, ↓zt_g26, ↓zt_g27, ↓zt_g28, ↓zt_g29, ↓zt_g30, ↓zt_g31, ↓zt_g32, ↓zt_g33, ↓zt_g34, ↓zt_g35, ↓zt_g36, ↓zt_g37, ↓zt_g38, ↓zt_g39, ↓zt_g40, ↓zt_p4 hm, ↓zt_p5 hm, ↓zt_p6 hm, ↓zt_p15 hm, ↓zt_p21 hm, ↓zt_p22 hm, ↓zt_p23 hm, ↓zt_p26 hm, ↓zt_p28 hm, ↓zt_p29 hm, ↓zt_p30 hm, ↓zt_p31 hm, ↓zt_p32 hm, ↓zt_p33 hm, ↓zt_p34 hm, ↓zt_p35 hm, ↓zt_p36 hm, ↓zt_p40 hm, ↓zt_p19 hm, ↓zt_p20 hm, ↓zt_a1, ↓zt_a2, ↓zt_a3, ↓zt_a4, ↓zt_a5, ↓zt_a6, ↓zt_a7, ↓zt_a8, ↓zt_a9, ↓zt_a10, ↓zt_a11, ↓zt_a12, ↓zt_a13, ↓zt_a14, ↓zt_a15, ↓zt_a16, ↓zt_a17, ↓zt_a18, ↓zt_a19, ↓zt_a20, ↓zt_a21, ↓zt_s1 hm, ↓zt_s2 hm, ↓zt_s3 hm, ↓zt_s4 hm, ↓zt_s5 hm, ↓zt_s6 hm, ↓zt_s7 hm, ↓zt_s8 hm, ↓zt_s9 hm, ↓zt_s10 hm, ↓zt_s11 hm, ↓zt_s12 hm, ↓zt_s16 hm, ↓zt_s17 hm, ↓zt_s18 hm, ↓zt_s20 hm, ↓zt_s13 hm, ↓zt_s14 hm, ↓zt_s15 hm, ↓zt_s21 hm, ↓zt_l19, ↓zt_l17, forall_eq, ↓zqI_r, ↓zqL_r, ↓zqD_r, ↓zqF_r, ↓zqV_r, ↓zqR_r, ↓zqR_s, zboolb, zbool0, zbool1, true_and, and_true]
  refine zt_202 hm (g := true) (jb := 14) (by decide) (Or.inl rfl) hk kn3 (fun w1 f1 hw1 => ?_)
  simp only [↓zt_rc, ↓zt_g0, ↓zt_g1, ↓zt_g2, ↓zt_g3, ↓zt_g4, ↓zt_g5, ↓zt_g6, ↓zt_g7, ↓zt_g8, ↓zt_g9, ↓zt_g10, ↓zt_g11, ↓zt_g12, ↓zt_g13, ↓zt_g14, ↓zt_g15, ↓zt_g16, ↓zt_g17, ↓zt_g18, ↓zt_g19, ↓zt_g20, ↓zt_g21, ↓zt_g22, ↓zt_g23, ↓zt_g24, ↓zt_g25, ↓zt_g26, ↓zt_g27, ↓zt_g28, ↓zt_g29, ↓zt_g30, ↓zt_g31, ↓zt_g32, ↓zt_g33, ↓zt_g34, ↓zt_g35, ↓zt_g36, ↓zt_g37, ↓zt_g38, ↓zt_g39, ↓zt_g40, ↓zt_p4 hm, ↓zt_p5 hm, ↓zt_p6 hm, ↓zt_p15 hm, ↓zt_p21 hm, ↓zt_p22 hm, ↓zt_p23 hm, ↓zt_p26 hm, ↓zt_p28 hm, ↓zt_p29 hm, ↓zt_p30 hm, ↓zt_p31 hm, ↓zt_p32 hm, ↓zt_p33 hm, ↓zt_p34 hm, ↓zt_p35 hm, ↓zt_p36 hm, ↓zt_p40 hm, ↓zt_p19 hm, ↓zt_p20 hm, ↓zt_a1, ↓zt_a2, ↓zt_a3, ↓zt_a4, ↓zt_a5, ↓zt_a6, ↓zt_a7, ↓zt_a8, ↓zt_a9, ↓zt_a10, ↓zt_a11, ↓zt_a12, ↓zt_a13, ↓zt_a14, ↓zt_a15, ↓zt_a16, ↓zt_a17, ↓zt_a18, ↓zt_a19, ↓zt_a20, ↓zt_a21, ↓zt_s1 hm, ↓zt_s2 hm, ↓zt_s3 hm, ↓zt_s4 hm, ↓zt_s5 hm, ↓zt_s6 hm, ↓zt_s7 hm, ↓zt_s8 hm, ↓zt_s9 hm, ↓zt_s10 hm, ↓zt_s11 hm, ↓zt_s12 hm, ↓zt_s16 hm, ↓zt_s17 hm, ↓zt_s18 hm, ↓zt_s20 hm, ↓zt_s13 hm, ↓zt_s14 hm, ↓zt_s15 hm, ↓zt_s21 hm, ↓zt_l19, ↓zt_l17, forall_eq, ↓zqI_r, ↓zqL_r, ↓zqD_r, ↓zqF_r, ↓zqV_r, ↓zqR_r, ↓zqR_s, zboolb, zbool0, zbool1, true_and, and_true]
  have kn4 : zt_kn (zs_ka V) (zs_lc V true) (zs_lc V false) (zs_bc p 5) (zs_mb p) (zs_mb q) (((M3.sB 14 w1).sB 13 f1).sL 19 (iL (zs_ks V true p q))) := kn3
  refine zt_202 hm (g := false) (jb := 15) (by decide) (Or.inr rfl) hk kn4 (fun w2 f2 hw2 => ?_)
  have es : fb_si (zs_X (zs_bc p 5) (zs_B true (zs_ka V) (zs_mb p) (zs_mb q))) (zs_bc p 5) = zs_ks V true p q := rfl
  have es2 : fb_si (zs_X (zs_bc p 5) (zs_B false (zs_ka V) (zs_mb p) (zs_mb q))) (zs_bc p 5) = zs_ks V false p q := rfl
  rw [es2]
  simp only [↓zt_rc, ↓zt_g0, ↓zt_g1, ↓zt_g2, ↓zt_g3, ↓zt_g4, ↓zt_g5, ↓zt_g6, ↓zt_g7, ↓zt_g8, ↓zt_g9, ↓zt_g10, ↓zt_g11, ↓zt_g12, ↓zt_g13, ↓zt_g14, ↓zt_g15, ↓zt_g16, ↓zt_g17, ↓zt_g18, ↓zt_g19, ↓zt_g20, ↓zt_g21, ↓zt_g22, ↓zt_g23, ↓zt_g24, ↓zt_g25, ↓zt_g26, ↓zt_g27, ↓zt_g28, ↓zt_g29, ↓zt_g30, ↓zt_g31, ↓zt_g32, ↓zt_g33, ↓zt_g34, ↓zt_g35, ↓zt_g36, ↓zt_g37, ↓zt_g38, ↓zt_g39, ↓zt_g40, ↓zt_p4 hm, ↓zt_p5 hm, ↓zt_p6 hm, ↓zt_p15 hm, ↓zt_p21 hm, ↓zt_p22 hm, ↓zt_p23 hm, ↓zt_p26 hm, ↓zt_p28 hm, ↓zt_p29 hm, ↓zt_p30 hm, ↓zt_p31 hm, ↓zt_p32 hm, ↓zt_p33 hm, ↓zt_p34 hm, ↓zt_p35 hm, ↓zt_p36 hm, ↓zt_p40 hm, ↓zt_p19 hm, ↓zt_p20 hm, ↓zt_a1, ↓zt_a2, ↓zt_a3, ↓zt_a4, ↓zt_a5, ↓zt_a6, ↓zt_a7, ↓zt_a8, ↓zt_a9, ↓zt_a10, ↓zt_a11, ↓zt_a12, ↓zt_a13, ↓zt_a14, ↓zt_a15, ↓zt_a16, ↓zt_a17, ↓zt_a18, ↓zt_a19, ↓zt_a20, ↓zt_a21, ↓zt_s1 hm, ↓zt_s2 hm, ↓zt_s3 hm, ↓zt_s4 hm, ↓zt_s5 hm, ↓zt_s6 hm, ↓zt_s7 hm, ↓zt_s8 hm, ↓zt_s9 hm, ↓zt_s10 hm, ↓zt_s11 hm, ↓zt_s12 hm, ↓zt_s16 hm, ↓zt_s17 hm, ↓zt_s18 hm, ↓zt_s20 hm, ↓zt_s13 hm, ↓zt_s14 hm, ↓zt_s15 hm, ↓zt_s21 hm, ↓zt_l19, ↓zt_l17, forall_eq, ↓zqI_r, ↓zqL_r, ↓zqD_r, ↓zqF_r, ↓zqV_r, ↓zqR_r, ↓zqR_s, zboolb, zbool0, zbool1, true_and, and_true]
  rw [es]
  generalize hM5 : (((((M3.sB 14 w1).sB 13 f1).sL 19 (iL (zs_ks V true p q))).sB 15 w2).sB 13 f2).sL 20 (iL (zs_ks V false p q)) = M5
  have hb1 : ∀ g o, o < zs_bc p 5 → -368868867840000 ≤ zs_kx V g p q o ∧ zs_kx V g p q o ≤ 368868867840000 := fun g o ho => zs_X_b hk hle5 (fun x y hx hy => zs_B_b kn3 hx hy) ho
  have hbS : ∀ g, -9000000000000000000 ≤ zs_ks V g p q ∧ zs_ks V g p q ≤ 9000000000000000000 := by
    intro g
    have h9 := fb_si_bound (f := zs_kx V g p q) (c := 368868867840000) (by decide) (n := zs_bc p 5) (fun i hi => hb1 g i hi)
    have : (zs_bc p 5 : Int) * 368868867840000 ≤ 5 * 368868867840000 := by omega
    unfold zs_ks
    omega
  have kl5 : zt_kl V p q M5 := by
    rw [← hM5]
    refine ⟨kn3, fun o ho => hw1 o ho, fun o ho => hw2 o ho, rfl, rfl⟩
  have kx5 : zt_kx M M5 := by
    rw [← hM5]
    exact kx3
  have i5 : ∀ k, k ≠ 15 → M5.1 k = M.1 k := by
    rw [← hM5]
    exact i3
  have t5 : zt_tbl V M5 := by
    rw [← hM5]
    exact t3
  have e5 : M5.2.2.1 1 = V := by
    rw [← hM5]
    exact e3
  have L19 : va_up (va_up M3.2.1 19 (iL (zs_ks V true p q))) 20 (iL (zs_ks V false p q)) 19 = iL (zs_ks V true p q) := by
    rw [va_up_ne _ _ (by omega), va_up_self]
  have L20 : va_up (va_up M3.2.1 19 (iL (zs_ks V true p q))) 20 (iL (zs_ks V false p q)) 20 = iL (zs_ks V false p q) := va_up_self _ _ _
  simp only [L19, L20, zJ]
  clear hM5
  obtain ⟨kn5, a1, a2, a3, a4⟩ := id kl5
  have no : ¬ zs_gd V p q → Q (some (.int 0)) (zt_S σ m N M5) := fun hg => h0 hg M5 kx5 t5 i5
  have z1 : lg_cmp (iL (zs_ks V true p q)) 0 = 0 ↔ zs_ks V true p q = 0 := by rw [lc_0, iL_to (by have := hbS true; omega) (by have := hbS true; omega)]
  have z2 : lg_cmp (iL (zs_ks V false p q)) 0 = 0 ↔ zs_ks V false p q = 0 := by rw [lc_0, iL_to (by have := hbS false; omega) (by have := hbS false; omega)]
  rw [z1, z2]
  refine ⟨fun hz => no (fun hg => hg.1 hz), fun hz => ⟨fun hz2 => no (fun hg => hg.2.1 hz2), fun hz2 => ?_⟩⟩
  refine zt_207 (jb := 14) (Or.inl rfl) hle5 kn5.2.2.2.1 (fun o ho => ⟨a1 o ho, by have := hb1 true o ho; omega⟩) (hbS true) (fun hs => ?_) (fun hs => ?_)
  · simp only [↓zt_rc, ↓zt_g0, ↓zt_g1, ↓zt_g2, ↓zt_g3, ↓zt_g4, ↓zt_g5, ↓zt_g6, ↓zt_g7, ↓zt_g8, ↓zt_g9, ↓zt_g10, ↓zt_g11, ↓zt_g12, ↓zt_g13, ↓zt_g14, ↓zt_g15, ↓zt_g16, ↓zt_g17, ↓zt_g18, ↓zt_g19, ↓zt_g20, ↓zt_g21, ↓zt_g22, ↓zt_g23, ↓zt_g24, ↓zt_g25, ↓zt_g26, ↓zt_g27, ↓zt_g28, ↓zt_g29, ↓zt_g30, ↓zt_g31, ↓zt_g32, ↓zt_g33, ↓zt_g34, ↓zt_g35, ↓zt_g36, ↓zt_g37, ↓zt_g38, ↓zt_g39, ↓zt_g40, ↓zt_p4 hm, ↓zt_p5 hm, ↓zt_p6 hm, ↓zt_p15 hm, ↓zt_p21 hm, ↓zt_p22 hm, ↓zt_p23 hm, ↓zt_p26 hm, ↓zt_p28 hm, ↓zt_p29 hm, ↓zt_p30 hm, ↓zt_p31 hm, ↓zt_p32 hm, ↓zt_p33 hm, ↓zt_p34 hm, ↓zt_p35 hm, ↓zt_p36 hm, ↓zt_p40 hm, ↓zt_p19 hm, ↓zt_p20 hm, ↓zt_a1, ↓zt_a2, ↓zt_a3, ↓zt_a4, ↓zt_a5, ↓zt_a6, ↓zt_a7, ↓zt_a8, ↓zt_a9, ↓zt_a10, ↓zt_a11, ↓zt_a12, ↓zt_a13, ↓zt_a14, ↓zt_a15, ↓zt_a16, ↓zt_a17, ↓zt_a18, ↓zt_a19, ↓zt_a20, ↓zt_a21, ↓zt_s1 hm, ↓zt_s2 hm, ↓zt_s3 hm, ↓zt_s4 hm, ↓zt_s5 hm, ↓zt_s6 hm, ↓zt_s7 hm, ↓zt_s8 hm, ↓zt_s9 hm, ↓zt_s10 hm, ↓zt_s11 hm, ↓zt_s12 hm, ↓zt_s16 hm, ↓zt_s17 hm, ↓zt_s18 hm, ↓zt_s20 hm, ↓zt_s13 hm, ↓zt_s14 hm, ↓zt_s15 hm, ↓zt_s21 hm, ↓zt_l19, ↓zt_l17, forall_eq, ↓zqI_r, ↓zqL_r, ↓zqD_r, ↓zqF_r, ↓zqV_r, ↓zqR_r, ↓zqR_s, zboolb, zbool0, zbool1, true_and, and_true, a4]
    refine ⟨fun h9 => absurd trivial h9, fun _ => ?_⟩
    refine zt_207 (jb := 15) (Or.inr rfl) hle5 kn5.2.2.2.1 (fun o ho => ⟨a2 o ho, by have := hb1 false o ho; omega⟩) (hbS false) (fun hs2 => ?_) (fun hs2 => ?_)
    · simp only [↓zt_rc, ↓zt_g0, ↓zt_g1, ↓zt_g2, ↓zt_g3, ↓zt_g4, ↓zt_g5, ↓zt_g6, ↓zt_g7, ↓zt_g8, ↓zt_g9, ↓zt_g10, ↓zt_g11, ↓zt_g12, ↓zt_g13, ↓zt_g14, ↓zt_g15, ↓zt_g16, ↓zt_g17, ↓zt_g18, ↓zt_g19, ↓zt_g20, ↓zt_g21, ↓zt_g22, ↓zt_g23, ↓zt_g24, ↓zt_g25, ↓zt_g26, ↓zt_g27, ↓zt_g28, ↓zt_g29, ↓zt_g30, ↓zt_g31, ↓zt_g32, ↓zt_g33, ↓zt_g34, ↓zt_g35, ↓zt_g36, ↓zt_g37, ↓zt_g38, ↓zt_g39, ↓zt_g40, ↓zt_p4 hm, ↓zt_p5 hm, ↓zt_p6 hm, ↓zt_p15 hm, ↓zt_p21 hm, ↓zt_p22 hm, ↓zt_p23 hm, ↓zt_p26 hm, ↓zt_p28 hm, ↓zt_p29 hm, ↓zt_p30 hm, ↓zt_p31 hm, ↓zt_p32 hm, ↓zt_p33 hm, ↓zt_p34 hm, ↓zt_p35 hm, ↓zt_p36 hm, ↓zt_p40 hm, ↓zt_p19 hm, ↓zt_p20 hm, ↓zt_a1, ↓zt_a2, ↓zt_a3, ↓zt_a4, ↓zt_a5, ↓zt_a6, ↓zt_a7, ↓zt_a8, ↓zt_a9, ↓zt_a10, ↓zt_a11, ↓zt_a12, ↓zt_a13, ↓zt_a14, ↓zt_a15, ↓zt_a16, ↓zt_a17, ↓zt_a18, ↓zt_a19, ↓zt_a20, ↓zt_a21, ↓zt_s1 hm, ↓zt_s2 hm, ↓zt_s3 hm, ↓zt_s4 hm, ↓zt_s5 hm, ↓zt_s6 hm, ↓zt_s7 hm, ↓zt_s8 hm, ↓zt_s9 hm, ↓zt_s10 hm, ↓zt_s11 hm, ↓zt_s12 hm, ↓zt_s16 hm, ↓zt_s17 hm, ↓zt_s18 hm, ↓zt_s20 hm, ↓zt_s13 hm, ↓zt_s14 hm, ↓zt_s15 hm, ↓zt_s21 hm, ↓zt_l19, ↓zt_l17, forall_eq, ↓zqI_r, ↓zqL_r, ↓zqD_r, ↓zqF_r, ↓zqV_r, ↓zqR_r, ↓zqR_s, zboolb, zbool0, zbool1, true_and, and_true, a3]
      refine ⟨fun _ => ?_, fun h9 => absurd trivial h9⟩
      refine zt_208 (g := true) (by decide) e5 hV kn5 hk (x := zs_kx V true p q) a1 (hb1 true) (hbS true) (fun hb => ?_) (fun hb => ?_)
      · simp only [↓zt_rc, ↓zt_g0, ↓zt_g1, ↓zt_g2, ↓zt_g3, ↓zt_g4, ↓zt_g5, ↓zt_g6, ↓zt_g7, ↓zt_g8, ↓zt_g9, ↓zt_g10, ↓zt_g11, ↓zt_g12, ↓zt_g13, ↓zt_g14, ↓zt_g15, ↓zt_g16, ↓zt_g17, ↓zt_g18, ↓zt_g19, ↓zt_g20, ↓zt_g21, ↓zt_g22, ↓zt_g23, ↓zt_g24, ↓zt_g25, ↓zt_g26, ↓zt_g27, ↓zt_g28, ↓zt_g29, ↓zt_g30, ↓zt_g31, ↓zt_g32, ↓zt_g33, ↓zt_g34, ↓zt_g35, ↓zt_g36, ↓zt_g37, ↓zt_g38, ↓zt_g39, ↓zt_g40, ↓zt_p4 hm, ↓zt_p5 hm, ↓zt_p6 hm, ↓zt_p15 hm, ↓zt_p21 hm, ↓zt_p22 hm, ↓zt_p23 hm, ↓zt_p26 hm, ↓zt_p28 hm, ↓zt_p29 hm, ↓zt_p30 hm, ↓zt_p31 hm, ↓zt_p32 hm, ↓zt_p33 hm, ↓zt_p34 hm, ↓zt_p35 hm, ↓zt_p36 hm, ↓zt_p40 hm, ↓zt_p19 hm, ↓zt_p20 hm, ↓zt_a1, ↓zt_a2, ↓zt_a3, ↓zt_a4, ↓zt_a5, ↓zt_a6, ↓zt_a7, ↓zt_a8, ↓zt_a9, ↓zt_a10, ↓zt_a11, ↓zt_a12, ↓zt_a13, ↓zt_a14, ↓zt_a15, ↓zt_a16, ↓zt_a17, ↓zt_a18, ↓zt_a19, ↓zt_a20, ↓zt_a21, ↓zt_s1 hm, ↓zt_s2 hm, ↓zt_s3 hm, ↓zt_s4 hm, ↓zt_s5 hm, ↓zt_s6 hm, ↓zt_s7 hm, ↓zt_s8 hm, ↓zt_s9 hm, ↓zt_s10 hm, ↓zt_s11 hm, ↓zt_s12 hm, ↓zt_s16 hm, ↓zt_s17 hm, ↓zt_s18 hm, ↓zt_s20 hm, ↓zt_s13 hm, ↓zt_s14 hm, ↓zt_s15 hm, ↓zt_s21 hm, ↓zt_l19, ↓zt_l17, forall_eq, ↓zqI_r, ↓zqL_r, ↓zqD_r, ↓zqF_r, ↓zqV_r, ↓zqR_r, ↓zqR_s, zboolb, zbool0, zbool1, true_and, and_true, a4]
        refine ⟨fun h9 => absurd trivial h9, fun _ => ?_⟩
        refine zt_208 (g := false) (by decide) e5 hV kn5 hk (x := zs_kx V false p q) a2 (hb1 false) (hbS false) (fun hb2 => ?_) (fun hb2 => ?_)
        · simp only [forall_eq, ↓zqI_r, ↓zqL_r, ↓zqD_r, ↓zqF_r, ↓zqV_r, ↓zqR_r, ↓zqR_s, zboolb, zbool0, zbool1, true_and, and_true]
          exact ⟨fun h9 => absurd trivial h9, fun _ => h1 ⟨hz, hz2, hs, hs2, hb, hb2⟩ M5 kx5 t5 i5 kl5⟩
        · simp only [forall_eq, ↓zqI_r, ↓zqL_r, ↓zqD_r, ↓zqF_r, ↓zqV_r, ↓zqR_r, ↓zqR_s, zboolb, zbool0, zbool1, true_and, and_true]
          exact ⟨fun _ => no (fun hg => hb2 hg.2.2.2.2.2), fun h9 => absurd h9 (by decide)⟩
      · simp only [forall_eq, ↓zqI_r, ↓zqL_r, ↓zqD_r, ↓zqF_r, ↓zqV_r, ↓zqR_r, ↓zqR_s, zboolb, zbool0, zbool1, true_and, and_true]
        exact ⟨fun _ => no (fun hg => hb hg.2.2.2.2.1), fun h9 => absurd h9 (by decide)⟩
    · simp only [forall_eq, ↓zqI_r, ↓zqL_r, ↓zqD_r, ↓zqF_r, ↓zqV_r, ↓zqR_r, ↓zqR_s, zboolb, zbool0, zbool1, true_and, and_true]
      exact ⟨fun h9 => absurd h9 (by decide), fun _ => no (fun hg => hs2 hg.2.2.2.1)⟩
  · simp only [forall_eq, ↓zqI_r, ↓zqL_r, ↓zqD_r, ↓zqF_r, ↓zqV_r, ↓zqR_r, ↓zqR_s, zboolb, zbool0, zbool1, true_and, and_true]
    exact ⟨fun _ => no (fun hg => hs hg.2.2.1), fun h9 => absurd h9 (by decide)⟩
end ZTG
