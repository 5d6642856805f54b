/-! THE REFERENCE: whether a kernel is good -/
def zk_bd (c : Int) : Nat → Int
  | 0 => 1
  | k + 1 => (k + 1) * (c * zk_bd c k)
theorem zk_bd_pos {c : Int} (hc : 0 ≤ c) : ∀ k, 0 ≤ zk_bd c k
  | 0 => by simp [zk_bd]
  | k + 1 => Int.mul_nonneg (by omega) (Int.mul_nonneg hc (zk_bd_pos hc k))
theorem zk_mulb {x y a b : Int} (hx : -a ≤ x ∧ x ≤ a) (hy : -b ≤ y ∧ y ≤ b) (ha : 0 ≤ a) (hb : 0 ≤ b) : -(a * b) ≤ x * y ∧ x * y ≤ a * b := by
  have h1 : x.natAbs ≤ a.natAbs := by omega
  have h2 : y.natAbs ≤ b.natAbs := by omega
  have h3 : (x * y).natAbs ≤ (a * b).natAbs := by
    rw [Int.natAbs_mul, Int.natAbs_mul]
    exact Nat.mul_le_mul h1 h2
  have h4 : 0 ≤ a * b := Int.mul_nonneg ha hb
  omega
theorem zk_sg_b (c : Nat) : zk_sg c = 1 ∨ zk_sg c = -1 := by
  unfold zk_sg
  by_cases h : c % 2 = 0
  · rw [if_pos h]; exact Or.inl rfl
  · rw [if_neg h]; exact Or.inr rfl
theorem zk_sgm {c : Nat} {x B : Int} (h : -B ≤ x ∧ x ≤ B) : -B ≤ zk_sg c * x ∧ zk_sg c * x ≤ B := by
  rcases zk_sg_b c with e | e <;> rw [e] <;> omega
theorem zk_dt_b {c : Int} (hc : 0 ≤ c) : ∀ (k : Nat) (b : Nat → Nat → Int), (∀ i j, i < k → j < k → -c ≤ b i j ∧ b i j ≤ c) → -zk_bd c k ≤ zk_dt k b ∧ zk_dt k b ≤ zk_bd c k
  | 0, b, _ => by simp [zk_dt, zk_bd]
  | k + 1, b, h => by
    simp only [zk_dt, zk_bd]
    have hp := zk_bd_pos hc k
    have h1 : ∀ q, q < k + 1 → -(c * zk_bd c k) ≤ zk_sg q * b 0 q * zk_dt k (fun i j => b (i + 1) (zk_sk q j)) ∧ zk_sg q * b 0 q * zk_dt k (fun i j => b (i + 1) (zk_sk q j)) ≤ c * zk_bd c k := by
      intro q hq
      refine zk_mulb (zk_sgm (h 0 q (by omega) hq)) (zk_dt_b hc k _ (fun i j hi hj => ?_)) hc hp
      refine h _ _ (by omega) ?_
      unfold zk_sk
      by_cases hh : j < q
      · rw [if_pos hh]; omega
      · rw [if_neg hh]; omega
    have h2 := fb_si_bound (Int.mul_nonneg hc hp) h1
    have e : ((k + 1 : Nat) : Int) = (k : Int) + 1 := by omega
    rw [e] at h2
    exact h2
theorem zs_X_b {k : Nat} {b : Nat → Nat → Int} (hk1 : 1 ≤ k) (hk : k ≤ 5) (h : ∀ x y, x < k → y < k → -990 ≤ b x y ∧ b x y ≤ 990) {o : Nat} (ho : o < k) : -368868867840000 ≤ zs_X k b o ∧ zs_X k b o ≤ 368868867840000 := by
  unfold zs_X
  refine zk_sgm ?_
  have h1 := zk_dt_b (c := 1980) (by omega) (k - 1) (fun p q => b (zk_sk o q) (p + 1) - b (zk_sk o q) 0) (fun i j hi hj => by
    have hs : zk_sk o j < k := by
      unfold zk_sk
      by_cases hh : j < o
      · rw [if_pos hh]; omega
      · rw [if_neg hh]; omega
    have h1 := h (zk_sk o j) (i + 1) hs (by omega)
    have h2 := h (zk_sk o j) 0 hs (by omega)
    omega)
  have h2 : zk_bd 1980 (k - 1) ≤ 368868867840000 := by
    have hk' : k - 1 = 0 ∨ k - 1 = 1 ∨ k - 1 = 2 ∨ k - 1 = 3 ∨ k - 1 = 4 := by omega
    rcases hk' with e | e | e | e | e <;> rw [e] <;> decide
  omega
/-- of one sign with S, or nothing -/
def zs_sc (S x : Int) : Prop := x = 0 ∨ (0 < x ↔ 0 < S)
/-- what a listed answer gives above (a plan below) the members -/
def zs_ab (g : Bool) (a : Nat → Nat → Int) (r c : Nat → Nat) (k : Nat) (x : Nat → Int) (l : Nat) : Int := fb_si (fun i => x i * (if g then a (r i) l - a (r i) (c 0) else a (r 0) (c i) - a l (c i))) k
def zs_bc (R k : Nat) : Nat := fb_ct (fun i => R.testBit i) k
def zs_mb (R i : Nat) : Nat := ((List.range 5).find? (fun k => R.testBit k && decide (zs_bc R k = i))).getD 0
theorem zs_mb_ok : ∀ R, R < 32 → ∀ k, k < 5 → R.testBit k = true → zs_mb R (zs_bc R k) = k := by decide +kernel
theorem zs_mb_lt : ∀ R, R < 32 → ∀ i, i < 5 → i < zs_bc R 5 → zs_mb R i < 5 ∧ R.testBit (zs_mb R i) = true ∧ zs_bc R (zs_mb R i) = i := by decide +kernel
def zs_pc (x : Int32) : Int32 :=
  let v1 := (x.toUInt32 >>> ((1 : Int32).toUInt32 &&& Int32.toUInt32 31)).toInt32
  let v3 := (x - (v1 &&& 1431655765)) &&& 858993459
  let v5 := ((x - (v1 &&& 1431655765)).toUInt32 >>> ((2 : Int32).toUInt32 &&& Int32.toUInt32 31)).toInt32
  let v7 := ((v3 + (v5 &&& 858993459)).toUInt32 >>> ((4 : Int32).toUInt32 &&& Int32.toUInt32 31)).toInt32
  let v9 := ((v3 + (v5 &&& 858993459)) + v7) &&& 252645135
  let v11 := (v9.toUInt32 >>> ((8 : Int32).toUInt32 &&& Int32.toUInt32 31)).toInt32
  let v13 := ((v9 + v11).toUInt32 >>> ((16 : Int32).toUInt32 &&& Int32.toUInt32 31)).toInt32
  ((v9 + v11) + v13) &&& 63
theorem zl_433 {G : zPg} {n : Nat} {x : Int32} {Q : zQ} {Y : zY} {s : zS} : zCall G (n + 1) 433 [.int x] Q Y s ↔ Q (some (.int (zs_pc x))) s := by
  rw [zc_eq (by decide) (b := zb433) rfl]
  simp only [zb433, forall_eq, List.cons.injEq, Value.ref.injEq, Value.int.injEq, Value.long.injEq, and_true, and_assoc, true_and, va_rf_iff, va_rf_iff2, exists_and_left, exists_eq_left', exists_eq_left]
  exact Iff.rfl
theorem zs_pc32 : ∀ R, R < 32 → zs_pc (nI R) = nI (zs_bc R 5) := by decide +kernel
section ZTF
variable {G : zPg} {n : Nat} {σ : zS} {m : Nat} {N : Nat → Option Nat} {M M0 : zt_M} {Q : zQ} {Y : zY} {V : zs_V} {a : Nat → Nat → Int} {mm nn k : Nat} {r c : Nat → Nat}
/-- the printed comparison of signs -/
theorem zt_sgn {x S : Int} {A B : Prop} (hx : -9000000000000000000 ≤ x ∧ x ≤ 9000000000000000000) (hS : -9000000000000000000 ≤ S ∧ S ≤ 9000000000000000000) (hA : zs_sc S x → A) (hB : ¬ zs_sc S x → B) : ((lg_cmp (iL x) 0 = 0) → A) ∧ ((¬ lg_cmp (iL x) 0 = 0) → ((lg_cmp (iL x) 0 ≤ 0) → ((lg_cmp (iL S) 0 ≤ 0) → (((0 : Int32) = 0) → A) ∧ ((¬ (0 : Int32) = 0) → B)) ∧ ((¬ lg_cmp (iL S) 0 ≤ 0) → (((0 : Int32) = 1) → A) ∧ ((¬ (0 : Int32) = 1) → B))) ∧ ((¬ lg_cmp (iL x) 0 ≤ 0) → ((lg_cmp (iL S) 0 ≤ 0) → (((1 : Int32) = 0) → A) ∧ ((¬ (1 : Int32) = 0) → B)) ∧ ((¬ lg_cmp (iL S) 0 ≤ 0) → (((1 : Int32) = 1) → A) ∧ ((¬ (1 : Int32) = 1) → B)))) := by
  rw [lc_0, lc_le, lc_le, iL_to (by omega) (by omega), iL_to (by omega) (by omega)]
  unfold zs_sc at hA hB
  refine ⟨fun h => hA (Or.inl h), fun h => ⟨fun h1 => ⟨fun h2 => ⟨fun _ => hA (Or.inr (by omega)), fun h9 => absurd rfl h9⟩, fun h2 => ⟨fun h9 => absurd h9 (by decide), fun _ => hB (by omega)⟩⟩, fun h1 => ⟨fun h2 => ⟨fun h9 => absurd h9 (by decide), fun _ => hB (by omega)⟩, fun h2 => ⟨fun _ => hA (Or.inr (by omega)), fun h9 => absurd rfl h9⟩⟩⟩⟩
theorem zt_207 {jb : Nat} (hjb : jb = 14 ∨ jb = 15) {x : Nat → Int} {S : Int} (hk : k ≤ 5) (h15 : M.1 15 = nI k) (hw : ∀ o, o < k → M.2.2.2 jb o = iL (x o) ∧ -9000000000000000000 ≤ x o ∧ x o ≤ 9000000000000000000) (hS : -9000000000000000000 ≤ S ∧ S ≤ 9000000000000000000) (h0 : (∀ o, o < k → zs_sc S (x o)) → Q (some (.int 0)) (zt_S σ m N M)) (h1 : ¬ (∀ o, o < k → zs_sc S (x o)) → Q (some (.int 1)) (zt_S σ m N M)) : zCall G (n + 1) 207 [.ref m, va_rf (some (m + jb)), .long (iL S)] Q Y (zt_S σ m N M) := by
  have hcj : zt_c m N M jb = some (.inl (1, 5, .inr (.inl (M.2.2.2 jb)))) := by
    rcases hjb with e | e <;> subst e <;> rfl
  have hal : ∀ {i : Int32} {K : Int64 → Prop}, zaL (zt_S σ m N M) (some (m + jb)) i K ↔ vp_in i 5 ∧ K (M.2.2.2 jb i.toNatClampNeg) := zt_aL (by omega) hcj
  refine ze207 ⟨_, _, _, rfl, ?_⟩
  refine zf2 0 k (fun o s' => s' = zt_S σ m N M ∧ ∀ q, q < o → zs_sc S (x q)) (by omega) ?_ ?_ ⟨rfl, fun q hq => absurd hq (by omega)⟩
  · rintro rec o s' _ ho ⟨rfl, hq⟩ hrec
    have hwo := hw o ho
    have hi : vp_in (nI o) 5 := nI_i (by omega) (by omega)
    simp only [↓zt_rc, ↓zt_g0, ↓zt_g1, ↓zt_g2, ↓zt_g3, ↓zt_g4, ↓zt_g5, ↓zt_g6, ↓zt_g7, ↓zt_g8, ↓zt_g9, ↓zt_g10, ↓zt_g11, ↓zt_g12, ↓zt_g13, ↓zt_g14, ↓zt_g15, ↓zt_g16, ↓zt_g17, ↓zt_g18, ↓zt_g19, ↓zt_g20, ↓zt_g21, ↓zt_g22, ↓zt_g23, ↓zt_g24, ↓zt_g25, ↓zt_g26, ↓zt_g27, ↓zt_g28, ↓zt_g29, ↓zt_g30, ↓zt_g31, ↓zt_g32, ↓zt_g33, ↓zt_g34, ↓zt_g35, ↓zt_g36, ↓zt_g37, ↓zt_g38, ↓zt_g39, ↓zt_g40, ↓zt_a1, ↓zt_a2, ↓zt_a3, ↓zt_a4, ↓zt_a5, ↓zt_a6, ↓zt_a7, ↓zt_a8, ↓zt_a9, ↓zt_a10, ↓zt_a11, ↓zt_a12, ↓zt_a13, ↓zt_a14, ↓zt_a15, ↓zt_a16, ↓zt_a17, ↓zt_a18, ↓zt_a19, ↓zt_a20, ↓zt_a21, ↓zt_l19, ↓zt_l17, forall_eq, ↓zqI_r, ↓zqL_r, ↓zqD_r, ↓zqF_r, ↓zqV_r, ↓zqR_r, ↓zqR_s, zboolb, zbool0, zbool1, true_and, and_true, zJ, h15, ↓hal, nI_cl (show o < 2147483648 by omega), hwo.1, hi]
    refine ⟨fun h9 => absurd h9 (nI_ge ho (by omega)), fun _ => ?_⟩
    have := zt_sgn (A := rec (nI o + 1) (zt_S σ m N M)) (B := Q (some (.int 1)) (zt_S σ m N M)) hwo.2 hS (fun hs => hrec _ ⟨rfl, fun q hq' => by
      by_cases e : q = o
      · subst e; exact hs
      · exact hq q (by omega)⟩) (fun hs => h1 (fun hall => hs (hall o ho)))
    simp only [zboolb, zbool0, zbool1, true_and, and_true, zJ] at this ⊢
    exact this
  · rintro rec s' ⟨rfl, hq⟩
    simp only [↓zt_rc, ↓zt_g0, ↓zt_g1, ↓zt_g2, ↓zt_g3, ↓zt_g4, ↓zt_g5, ↓zt_g6, ↓zt_g7, ↓zt_g8, ↓zt_g9, ↓zt_g10, ↓zt_g11, ↓zt_g12, ↓zt_g13, ↓zt_g14, ↓zt_g15, ↓zt_g16, ↓zt_g17, ↓zt_g18, ↓zt_g19, ↓zt_g20, ↓zt_g21, ↓zt_g22, ↓zt_g23, ↓zt_g24, ↓zt_g25, ↓zt_g26, ↓zt_g27, ↓zt_g28, ↓zt_g29, ↓zt_g30, ↓zt_g31, ↓zt_g32, ↓zt_g33, ↓zt_g34, ↓zt_g35, ↓zt_g36, ↓zt_g37, ↓zt_g38, ↓zt_g39, ↓zt_g40, ↓zt_a1, ↓zt_a2, ↓zt_a3, ↓zt_a4, ↓zt_a5, ↓zt_a6, ↓zt_a7, ↓zt_a8, ↓zt_a9, ↓zt_a10, ↓zt_a11, ↓zt_a12, ↓zt_a13, ↓zt_a14, ↓zt_a15, ↓zt_a16, ↓zt_a17, ↓zt_a18, ↓zt_a19, ↓zt_a20, ↓zt_a21, ↓zt_l19, ↓zt_l17, forall_eq, ↓zqI_r, ↓zqL_r, ↓zqD_r, ↓zqF_r, ↓zqV_r, ↓zqR_r, ↓zqR_s, zboolb, zbool0, zbool1, true_and, and_true, h15]
    exact ⟨fun _ => h0 hq, fun h9 => absurd (nI_le (Nat.le_refl _) (by omega)) h9⟩
theorem zt_209 {g : Bool} {z : Int32} (hz : z = 0 ↔ g = false) (h : zt_kn a mm nn k r c M) (hk1 : 1 ≤ k) {x : Nat → Int} (hw : ∀ o, o < k → M.2.2.2 (if g then 14 else 15) o = iL (x o)) {l : Nat} (hl : l < (if g then nn else mm)) (hQ : Q (some (.long (iL (zs_ab g a r c k x l)))) (zt_S σ m N M)) : zCall G (n + 2) 209 [.ref m, .int z, .int (nI l)] Q Y (zt_S σ m N M) := by
  obtain ⟨k5, m5, n5, h15, h5, h6, h7⟩ := id h
  refine ze209 ⟨_, _, _, rfl, ?_⟩
  refine zf3 0 k (fun o y s' => s' = zt_S σ m N M ∧ y = iL (fb_si (fun i => x i * (if g then a (r i) l - a (r i) (c 0) else a (r 0) (c i) - a l (c i))) o)) (by omega) ?_ ?_ ⟨rfl, rfl⟩
  · rintro rec o y s' _ ho ⟨rfl, rfl⟩ hrec
    have hc0 : ∀ {Q : zQ} {Y : zY}, zCall G (n + 1) 204 [.ref m, .int z, .int (nI o), .int 0] Q Y (zt_S σ m N M) ↔ Q (some (.int (iI (zs_B g a r c o 0)))) (zt_S σ m N M) := zl_cell (n := n) hz h (x := o) (y := 0) ho (by omega)
    have hi : vp_in (nI o) 5 := nI_i (by omega) (by omega)
    have ro := h5 o ho
    have co := h6 o ho
    have c0 := h6 0 (by omega)
    have r0 := h5 0 (by omega)
    simp only [↓zt_rc, ↓zt_g0, ↓zt_g1, ↓zt_g2, ↓zt_g3, ↓zt_g4, ↓zt_g5, ↓zt_g6, ↓zt_g7, ↓zt_g8, ↓zt_g9, ↓zt_g10, ↓zt_g11, ↓zt_g12, ↓zt_g13, ↓zt_g14, ↓zt_g15, ↓zt_g16, ↓zt_g17, ↓zt_g18, ↓zt_g19, ↓zt_g20, ↓zt_g21, ↓zt_g22, ↓zt_g23, ↓zt_g24, ↓zt_g25, ↓zt_g26, ↓zt_g27, ↓zt_g28, ↓zt_g29, ↓zt_g30, ↓zt_g31, ↓zt_g32, ↓zt_g33, ↓zt_g34, ↓zt_g35, ↓zt_g36, ↓zt_g37, ↓zt_g38, ↓zt_g39, ↓zt_g40, ↓zt_a1, ↓zt_a2, ↓zt_a3, ↓zt_a4, ↓zt_a5, ↓zt_a6, ↓zt_a7, ↓zt_a8, ↓zt_a9, ↓zt_a10, ↓zt_a11, ↓zt_a12, ↓zt_a13, ↓zt_a14, ↓zt_a15, ↓zt_a16, ↓zt_a17, ↓zt_a18, ↓zt_a19, ↓zt_a20, ↓zt_a21, ↓zt_l19, ↓zt_l17, forall_eq, ↓zqI_r, ↓zqL_r, ↓zqD_r, ↓zqF_r, ↓zqV_r, ↓zqR_r, ↓zqR_s, zboolb, zbool0, zbool1, true_and, and_true, zJ, h15, ↓hc0, nI_cl (show o < 2147483648 by omega), hi, ro.1, co.1, zx_5]
    refine ⟨fun h9 => absurd h9 (nI_ge ho (by omega)), fun _ => ?_⟩
    have hwo := hw o ho
    cases g with
    | true =>
      have hz' : ¬ z = 0 := fun e => by have := hz.mp e; cases this
      simp only [hz', false_implies, true_and, not_false_eq_true, true_implies]
      have hl : l < nn := hl
      have t1 := h7 (r o) l ro.2 hl
      have t2 := h7 (r o) (c 0) ro.2 c0.2
      have hwo : M.2.2.2 14 o = iL (x o) := hwo
      rw [nI_cl (by omega), t1.1, hwo]
      refine ⟨nI_i (by omega) (by omega), ?_⟩
      have eB : zs_B true a r c o 0 = a (r o) (c 0) := rfl
      rw [eB, iI_sub, iI_L (by omega) (by omega), iL_mul, iL_add]
      exact hrec _ _ ⟨rfl, rfl⟩
    | false =>
      have hz' : z = 0 := hz.mpr rfl
      simp only [hz', not_true, false_implies, and_true, true_implies, true_and]
      have hl : l < mm := hl
      have t1 := h7 l (c o) hl co.2
      have t2 := h7 (r 0) (c o) r0.2 co.2
      have hwo : M.2.2.2 15 o = iL (x o) := hwo
      rw [nI_cl (by omega), t1.1, hwo]
      refine ⟨nI_i (by omega) (by omega), ?_⟩
      have eB : zs_B false a r c o 0 = a (r 0) (c o) := rfl
      rw [eB, iI_sub, iI_L (by omega) (by omega), iL_mul, iL_add]
      exact hrec _ _ ⟨rfl, rfl⟩
  · rintro rec y s' ⟨rfl, rfl⟩
    simp only [↓zt_rc, ↓zt_g0, ↓zt_g1, ↓zt_g2, ↓zt_g3, ↓zt_g4, ↓zt_g5, ↓zt_g6, ↓zt_g7, ↓zt_g8, ↓zt_g9, ↓zt_g10, ↓zt_g11, ↓zt_g12, ↓zt_g13, ↓zt_g14, ↓zt_g15, ↓zt_g16, ↓zt_g17, ↓zt_g18, ↓zt_g19, ↓zt_g20, ↓zt_g21, ↓zt_g22, ↓zt_g23, ↓zt_g24, ↓zt_g25, ↓zt_g26, ↓zt_g27, ↓zt_g28, ↓zt_g29, ↓zt_g30, ↓zt_g31, ↓zt_g32, ↓zt_g33, ↓zt_g34, ↓zt_g35, ↓zt_g36, ↓zt_g37, ↓zt_g38, ↓zt_g39, ↓zt_g40, ↓zt_a1, ↓zt_a2, ↓zt_a3, ↓zt_a4, ↓zt_a5, ↓zt_a6, ↓zt_a7, ↓zt_a8, ↓zt_a9, ↓zt_a10, ↓zt_a11, ↓zt_a12, ↓zt_a13, ↓zt_a14, ↓zt_a15, ↓zt_a16, ↓zt_a17, ↓zt_a18, ↓zt_a19, ↓zt_a20, ↓zt_a21, ↓zt_l19, ↓zt_l17, forall_eq, ↓zqI_r, ↓zqL_r, ↓zqD_r, ↓zqF_r, ↓zqV_r, ↓zqR_r, ↓zqR_s, zboolb, zbool0, zbool1, true_and, and_true, h15]
    exact ⟨fun _ => hQ, fun h9 => absurd (nI_le (Nat.le_refl _) (by omega)) h9⟩
theorem zs_ab_b {g : Bool} {x : Nat → Int} {l : Nat} (h : zt_kn a mm nn k r c M) (hk1 : 1 ≤ k) (hl : l < (if g then nn else mm)) (hx : ∀ o, o < k → -368868867840000 ≤ x o ∧ x o ≤ 368868867840000) : -9000000000000000000 ≤ zs_ab g a r c k x l ∧ zs_ab g a r c k x l ≤ 9000000000000000000 := by
  obtain ⟨k5, m5, n5, h15, h5, h6, h7⟩ := id h
  have h1 := fb_si_bound (f := fun i => x i * (if g then a (r i) l - a (r i) (c 0) else a (r 0) (c i) - a l (c i))) (c := 368868867840000 * 1980) (by decide) (n := k) (fun i hi => by
    refine zk_mulb (hx i hi) ?_ (by omega) (by omega)
    have ro := h5 i hi
    have co := h6 i hi
    have c0 := h6 0 (by omega)
    have r0 := h5 0 (by omega)
    cases g with
    | true =>
      have t1 := h7 (r i) l ro.2 hl
      have t2 := h7 (r i) (c 0) ro.2 c0.2
      simp only [if_true]
      omega
    | false =>
      have t1 := h7 l (c i) hl co.2
      have t2 := h7 (r 0) (c i) r0.2 co.2
      simp only [Bool.false_eq_true, if_false]
      omega)
  unfold zs_ab
  have : (k : Int) * (368868867840000 * 1980) ≤ 5 * (368868867840000 * 1980) := by omega
  omega
theorem zt_208 {g : Bool} {z : Int32} (hz : z = 0 ↔ g = false) (hM : M.2.2.1 1 = V) (hV : zs_ok V) (h : zt_kn a (zs_lc V true) (zs_lc V false) k r c M) (hk1 : 1 ≤ k) {x : Nat → Int} {S : Int} (hw : ∀ o, o < k → M.2.2.2 (if g then 14 else 15) o = iL (x o)) (hx : ∀ o, o < k → -368868867840000 ≤ x o ∧ x o ≤ 368868867840000) (hS : -9000000000000000000 ≤ S ∧ S ≤ 9000000000000000000) (h0 : (∀ l, l < zs_lc V (!g) → zs_sc S (zs_ab g a r c k x l)) → Q (some (.int 0)) (zt_S σ m N M)) (h1 : ¬ (∀ l, l < zs_lc V (!g) → zs_sc S (zs_ab g a r c k x l)) → Q (some (.int 1)) (zt_S σ m N M)) : zCall G (n + 3) 208 [.ref m, .int z, .long (iL S)] Q Y (zt_S σ m N M) := by
  have hlc := hV.lc (!g)
  have hlt : ∀ l, l < zs_lc V (!g) → l < (if g then zs_lc V false else zs_lc V true) := by
    intro l hl
    cases g <;> exact hl
  have hcnt : ∀ z' : Int32, (z' = if z = 0 then 1 else 0) → ∀ {Q : zQ}, zCall G (n + 2) 189 [.ref m, .int z'] Q Y (zt_S σ m N M) ↔ Q (some (.int (nI (zs_lc V (!g))))) (zt_S σ m N M) := by
    intro z' hz' Q
    have hx' : z' = 0 ↔ (!g) = false := by
      rw [hz']
      cases g with
      | true =>
        have : ¬ z = 0 := fun e => by have := hz.mp e; cases this
        rw [if_neg this]
        simp
      | false =>
        rw [if_pos (hz.mpr rfl)]
        simp
    rw [zl_189, (zx_ci hx').2.1, hM, hlc.1]
  refine ze208 ⟨_, _, _, rfl, ?_⟩
  refine zf2 0 (zs_lc V (!g)) (fun o s' => s' = zt_S σ m N M ∧ ∀ q, q < o → zs_sc S (zs_ab g a r c k x q)) (by omega) ?_ ?_ ⟨rfl, fun q hq => absurd hq (by omega)⟩
  · rintro rec o s' _ ho ⟨rfl, hq⟩ hrec
    have hb := zs_ab_b h hk1 (hlt o ho) hx
    have go : zCall G (n + 2) 209 [.ref m, .int z, .int (nI o)] (zqL (fun v15 s16 => zJ (fun (s22 : zS) => (∀ v24 : Int32, v24 = nI o + (1 : Int32) → rec v24 s22)) (fun (j23 : zS → Prop) => (((lg_cmp v15 (0 : Int64)) = 0) → j23 s16) ∧ ((¬ (lg_cmp v15 (0 : Int64)) = 0) → zJ (fun (p27 : Int32) (s28 : zS) => zJ (fun (p30 : Int32) (s31 : zS) => ((p27 = p30) → j23 s31) ∧ ((¬ p27 = p30) → zbool (1 : Int32) ∧ Q (some (.int (1 : Int32))) s31)) (fun (j32 : Int32 → zS → Prop) => (((lg_cmp (iL S) (0 : Int64)) ≤ 0) → j32 (0 : Int32) s28) ∧ ((¬ (lg_cmp (iL S) (0 : Int64)) ≤ 0) → j32 (1 : Int32) s28))) (fun (j29 : Int32 → zS → Prop) => (((lg_cmp v15 (0 : Int64)) ≤ 0) → j29 (0 : Int32) s16) ∧ ((¬ (lg_cmp v15 (0 : Int64)) ≤ 0) → j29 (1 : Int32) s16)))))) Y (zt_S σ m N M) := by
      refine zt_209 hz h hk1 hw (hlt o ho) ?_
      simp only [forall_eq, ↓zqI_r, ↓zqL_r, ↓zqD_r, ↓zqF_r, ↓zqV_r, ↓zqR_r, ↓zqR_s, zJ]
      have := zt_sgn (A := rec (nI o + 1) (zt_S σ m N M)) (B := Q (some (.int 1)) (zt_S σ m N M)) hb hS (fun hs => hrec _ ⟨rfl, fun q hq' => by
        by_cases e : q = o
        · subst e; exact hs
        · exact hq q (by omega)⟩) (fun hs => h1 (fun hall => hs (hall o ho)))
      simp only [zboolb, zbool0, zbool1, true_and, and_true] at this ⊢
      exact this
    have hge : ¬ nI (zs_lc V (!g)) ≤ nI o := nI_ge ho (by omega)
    refine ⟨fun hz0 => zt_rc.mpr ((hcnt 0 (by rw [if_neg hz0])).mpr ⟨_, rfl, ⟨fun h9 => absurd h9 hge, fun _ => zt_rc.mpr go⟩⟩), fun hz0 => zt_rc.mpr ((hcnt 1 (by rw [if_pos hz0])).mpr ⟨_, rfl, ⟨fun h9 => absurd h9 hge, fun _ => zt_rc.mpr go⟩⟩)⟩
  · rintro rec s' ⟨rfl, hq⟩
    have hle : nI (zs_lc V (!g)) ≤ nI (zs_lc V (!g)) := nI_le (Nat.le_refl _) (by omega)
    refine ⟨fun hz0 => zt_rc.mpr ((hcnt 0 (by rw [if_neg hz0])).mpr ⟨_, rfl, ⟨fun _ => ⟨Or.inl rfl, h0 hq⟩, fun h9 => absurd hle h9⟩⟩), fun hz0 => zt_rc.mpr ((hcnt 1 (by rw [if_pos hz0])).mpr ⟨_, rfl, ⟨fun _ => ⟨Or.inl rfl, h0 hq⟩, fun h9 => absurd hle h9⟩⟩)⟩
theorem zt_201 (hm : G.1 ≤ m) {j R : Nat} (hj : j = 11 ∨ j = 12) (hR : R < 32) (h : ∀ f, (∀ i, i < zs_bc R 5 → f i = nI (zs_mb R i)) → Q none (zt_S σ m N (M.sA j f))) : zCall G (n + 1) 201 [va_rf (some (m + j)), .int (nI R)] Q Y (zt_S σ m N M) := by
  have hcj : ∀ M : zt_M, zt_c m N M j = some (.inl (0, 5, .inl (M.2.2.1 j))) := by
    rcases hj with e | e <;> subst e <;> exact fun _ => rfl
  refine ze201 ⟨_, _, rfl, ?_⟩
  refine zf3 0 5 (fun q x s' => ∃ f, s' = zt_S σ m N (M.sA j f) ∧ x = nI (zs_bc R q) ∧ ∀ i, i < q → R.testBit i = true → f (zs_bc R i) = nI i) (by omega) ?_ ?_ ⟨M.2.2.1 j, by unfold zt_M.sA; rw [zt_up0], rfl, fun i hi => absurd hi (by omega)⟩
  · rintro rec q x s' _ hq ⟨f, rfl, rfl, hf⟩ hrec
    refine ⟨fun h9 => absurd h9 (nI_ge (b := 5) hq (by omega)), fun _ => ?_⟩
    have hle : zs_bc R q ≤ q := fb_ct_le _ _
    have hs : zs_bc R (q + 1) = zs_bc R q + (if R.testBit q then 1 else 0) := rfl
    simp only [zJ, forall_eq, ↓zqI_r, ↓zqL_r, ↓zqD_r, ↓zqF_r, ↓zqV_r, ↓zqR_r, ↓zqR_s, zn_bit (show R < 2147483648 by omega) (show q < 32 by omega)]
    refine ⟨fun hb => hrec _ _ ⟨f, rfl, ?_, fun i hi hbi => ?_⟩, fun hb => ?_⟩
    · rw [hs, if_neg hb]
      rfl
    · by_cases e : i = q
      · subst e
        exact absurd hbi hb
      · exact hf i (by omega) hbi
    · refine (zt_sI (M' := M.sA j (va_up f (zs_bc R q) (nI q))) (by omega) (hcj _) ?_ ?_ hm).mpr ⟨nI_i (by omega) (by omega), ?_⟩
      · rw [hcj, nI_cl (by omega), zt_sAj, zt_sAj]
      · intro p hp hne
        rw [zt_cA (by omega) p hp hne, zt_cA (by omega) p hp hne]
      · refine hrec _ _ ⟨_, rfl, ?_, fun i hi hbi => ?_⟩
        · rw [hs, if_pos hb, nI_1]
        · by_cases e : i = q
          · subst e
            rw [va_up_self]
          · have : zs_bc R i ≠ zs_bc R q := by
              intro e2
              have h1 := zs_mb_ok R hR i (by omega) hbi
              have h2 := zs_mb_ok R hR q hq hb
              rw [e2, h2] at h1
              exact e h1.symm
            rw [va_up_ne _ _ this]
            exact hf i (by omega) hbi
  · rintro rec x s' ⟨f, rfl, rfl, hf⟩
    refine ⟨fun _ => h f (fun i hi => ?_), fun h9 => absurd (nI_le (Nat.le_refl 5) (by omega)) h9⟩
    have hi5 : i < 5 := Nat.lt_of_lt_of_le hi (fb_ct_le _ _)
    obtain ⟨h1, h2, h3⟩ := zs_mb_lt R hR i hi5 hi
    have := hf _ h1 h2
    rw [h3] at this
    exact this
end ZTF
