/-! THE REFERENCE: sizes, payoffs, thresholds -/
/-- a payoff, item by item: what room is left, the result -/
def zs_pay (V : zs_V) (p a : Nat) : Nat → Int × Int
  | 0 => (zs_cap V - zs_w V 0 p, zs_w V 1 p)
  | k + 1 => if (a.testBit k = true ∧ p.testBit k = false) ∧ zs_p V k 0 ≤ (zs_pay V p a k).1 then ((zs_pay V p a k).1 - zs_p V k 0, (zs_pay V p a k).2 - zs_p V k 3) else zs_pay V p a k
def zs_po (V : zs_V) (p a : Nat) : Int := if zs_cap V - zs_w V 0 p < zs_thr V then zs_w V 1 p else (zs_pay V p a (zs_n V)).2
theorem zs_pay_b {V : zs_V} (h : zs_ok V) (p a : Nat) : ∀ k, k ≤ zs_n V → -990 ≤ (zs_pay V p a k).1 ∧ (zs_pay V p a k).1 ≤ 200 ∧ -(99 * (k : Int)) ≤ (zs_pay V p a k).2 ∧ (zs_pay V p a k).2 ≤ 990
  | 0, _ => by
    have h1 := zs_w_b h (f := 0) (by omega) p
    have h2 := zs_w_b h (f := 1) (by omega) p
    have h3 := h.c1
    simp only [zs_pay]
    omega
  | k + 1, hk => by
    have ih := zs_pay_b h p a k (by omega)
    have h0 := h.pr (f := 0) (k := k) (by omega) (by omega)
    have h3 := h.pr (f := 3) (k := k) (by omega) (by omega)
    have h4 := (h.2.2.2.2.1 k (by omega)).1
    simp only [zs_pay]
    by_cases hc : (a.testBit k = true ∧ p.testBit k = false) ∧ zs_p V k 0 ≤ (zs_pay V p a k).1
    · rw [if_pos hc]
      show -990 ≤ (zs_pay V p a k).1 - zs_p V k 0 ∧ (zs_pay V p a k).1 - zs_p V k 0 ≤ 200 ∧ _ ≤ (zs_pay V p a k).2 - zs_p V k 3 ∧ (zs_pay V p a k).2 - zs_p V k 3 ≤ 990
      omega
    · rw [if_neg hc]
      omega
theorem zs_po_b {V : zs_V} (h : zs_ok V) (p a : Nat) : -990 ≤ zs_po V p a ∧ zs_po V p a ≤ 990 := by
  have h1 := zs_pay_b h p a (zs_n V) (Nat.le_refl _)
  have h2 := h.n0.2
  have h3 := zs_w_b h (f := 1) (by omega) p
  unfold zs_po
  by_cases hc : zs_cap V - zs_w V 0 p < zs_thr V
  · rw [if_pos hc]; omega
  · rw [if_neg hc]; omega
section ZTC
variable {G : zPg} {n : Nat} {σ : zS} {m : Nat} {N : Nat → Option Nat} {M M0 : zt_M} {Q : zQ} {Y : zY} {V : zs_V} {u : Nat} {H : Nat → zs_V}
theorem zx_notb {a p k : Nat} (ha : a < 2147483648) (hp : p < 2147483648) (hk : k < 31) : (((nI a &&& (nI p ^^^ (-1))) >>> (nI k &&& 31)) &&& 1 = 1) ↔ (a.testBit k = true ∧ p.testBit k = false) := by
  have e : nI a &&& (nI p ^^^ (-1)) = nI (a &&& (2147483647 - p)) := by
    refine b_ext (fun i hi => ?_)
    rw [b_and, b_xor, b_m1 i hi, zn_bt _ _ hi, zn_bt _ _ hi, zn_bt _ _ hi, Nat.testBit_and, show 2147483647 - p = 2 ^ 31 - (p + 1) by omega, Nat.testBit_two_pow_sub_succ (by omega)]
    by_cases h31 : i < 31
    · simp [h31]
    · rw [zn_tb ha (by omega)]
      simp
  have hlt : a &&& (2147483647 - p) < 2147483648 := Nat.lt_of_le_of_lt Nat.and_le_left ha
  rw [e, zn_bit hlt (by omega), Nat.testBit_and, show 2147483647 - p = 2 ^ 31 - (p + 1) by omega, Nat.testBit_two_pow_sub_succ (by omega)]
  simp [hk]
theorem zf4 {τ ρ : Type} {F : (τ → ρ → Int32 → zS → Prop) → τ → ρ → Int32 → zS → Prop} (a b : Nat) (I : Nat → τ → ρ → zS → Prop) (hab : a ≤ b) (h1 : ∀ (rec : τ → ρ → Int32 → zS → Prop) k x y s, a ≤ k → k < b → I k x y s → (∀ x' y' s', I (k + 1) x' y' s' → rec x' y' (nI k + 1) s') → F rec x y (nI k) s) (h2 : ∀ rec x y s, I b x y s → F rec x y (nI b) s) {x : τ} {y : ρ} {σ : zS} (h0 : I a x y σ) : ∃ n, zIt (fun _ _ _ _ => False) F n x y (nI a) σ := by
  have key : ∀ (j : Nat) (k : Nat) (x : τ) (y : ρ) (s : zS), k + j = b → a ≤ k → I k x y s → zIt (fun _ _ _ _ => False) F (j + 1) x y (nI k) s := by
    intro j
    induction j with
    | zero =>
      intro k x y s e _ hI
      rw [Nat.add_zero] at e
      subst e
      exact h2 _ x y s hI
    | succ j ih =>
      intro k x y s e ha hI
      refine h1 _ k x y s ha (by omega) hI (fun x' y' s' hI' => ?_)
      rw [nI_1]
      exact ih (k + 1) x' y' s' (by omega) (by omega) hI'
  exact ⟨_, key (b - a) a x y σ (by omega) (Nat.le_refl _) h0⟩
theorem zt_194 (hM : M.2.2.1 1 = V) (hV : zs_ok V) {i j : Nat} (hi : i < zs_lc V true) (hj : j < zs_lc V false) (h : Q (some (.int (iI (zs_po V (zs_li V true i) (zs_li V false j))))) (zt_S σ m N M)) : zCall G (n + 4) 194 [.ref m, .int (nI i), .int (nI j)] Q Y (zt_S σ m N M) := by
  have hA := hV.all
  have hn := hV.n0
  have li := hV.li hi
  have lj := hV.li hj
  have l1 := (hV.lc true).2
  have l2 := (hV.lc false).2
  have hc := hV.c1
  have hc2 := hV.c2
  have ei : (51 : Int32) + (if (1 : Int32) = 0 then (5 : Int32) else 0) + nI i = nI (51 + i) := (zx_ci (b := true) (x := 1) (by decide)).2.2 i
  have ej : (51 : Int32) + (if (0 : Int32) = 0 then (5 : Int32) else 0) + nI j = nI (56 + j) := (zx_ci (b := false) (x := 0) (by decide)).2.2 j
  have lia : V (51 + i) = nI (zs_li V true i) := li.1
  have lja : V (56 + j) = nI (zs_li V false j) := lj.1
  have hw := zs_w_b hV (f := 0) (by omega) (zs_li V true i)
  refine ze194 ⟨_, _, _, rfl, ?_⟩
  refine zt_rc.mpr (zl_191.mpr ?_)
  rw [ei, nI_cl (by omega), hM, lia]
  refine ⟨nI_i (by omega) (by omega), ?_⟩
  simp only [↓zt_rc, ↓zt_g0, ↓zt_g1, ↓zt_g2, ↓zt_g3, ↓zt_g4, ↓zt_g5, ↓zt_g6, ↓zt_g7, ↓zt_g8, ↓zt_g9, ↓zt_g10, ↓zt_g11, ↓zt_g12, ↓zt_g13, ↓zt_g14, ↓zt_g15, ↓zt_g16, ↓zt_g17, ↓zt_g18, ↓zt_g19, ↓zt_g20, ↓zt_g21, ↓zt_g22, ↓zt_g23, ↓zt_g24, ↓zt_g25, ↓zt_g26, ↓zt_g27, ↓zt_g28, ↓zt_g29, ↓zt_g30, ↓zt_g31, ↓zt_g32, ↓zt_g33, ↓zt_g34, ↓zt_g35, ↓zt_g36, ↓zt_g37, ↓zt_g38, ↓zt_g39, ↓zt_g40, ↓zt_a1, ↓zt_a2, ↓zt_a3, ↓zt_a4, ↓zt_a5, ↓zt_a6, ↓zt_a7, ↓zt_a8, ↓zt_a9, ↓zt_a10, ↓zt_a11, ↓zt_a12, ↓zt_a13, ↓zt_a14, ↓zt_a15, ↓zt_a16, ↓zt_a17, ↓zt_a18, ↓zt_a19, ↓zt_a20, ↓zt_a21, ↓zt_l19, ↓zt_l17, forall_eq, ↓zqI_r, ↓zqL_r, ↓zqD_r, ↓zqF_r, ↓zqV_r, ↓zqR_r, ↓zqR_s, zboolb, zbool0, zbool1, true_and, and_true]
  refine zt_160 hM hV (by omega) ?_
  simp only [↓zt_rc, ↓zt_g0, ↓zt_g1, ↓zt_g2, ↓zt_g3, ↓zt_g4, ↓zt_g5, ↓zt_g6, ↓zt_g7, ↓zt_g8, ↓zt_g9, ↓zt_g10, ↓zt_g11, ↓zt_g12, ↓zt_g13, ↓zt_g14, ↓zt_g15, ↓zt_g16, ↓zt_g17, ↓zt_g18, ↓zt_g19, ↓zt_g20, ↓zt_g21, ↓zt_g22, ↓zt_g23, ↓zt_g24, ↓zt_g25, ↓zt_g26, ↓zt_g27, ↓zt_g28, ↓zt_g29, ↓zt_g30, ↓zt_g31, ↓zt_g32, ↓zt_g33, ↓zt_g34, ↓zt_g35, ↓zt_g36, ↓zt_g37, ↓zt_g38, ↓zt_g39, ↓zt_g40, ↓zt_a1, ↓zt_a2, ↓zt_a3, ↓zt_a4, ↓zt_a5, ↓zt_a6, ↓zt_a7, ↓zt_a8, ↓zt_a9, ↓zt_a10, ↓zt_a11, ↓zt_a12, ↓zt_a13, ↓zt_a14, ↓zt_a15, ↓zt_a16, ↓zt_a17, ↓zt_a18, ↓zt_a19, ↓zt_a20, ↓zt_a21, ↓zt_l19, ↓zt_l17, forall_eq, ↓zqI_r, ↓zqL_r, ↓zqD_r, ↓zqF_r, ↓zqV_r, ↓zqR_r, ↓zqR_s, zboolb, zbool0, zbool1, true_and, and_true]
  refine zt_161 hM hV (f := 1) (by omega) (by omega) ?_
  simp only [↓zt_rc, ↓zt_g0, ↓zt_g1, ↓zt_g2, ↓zt_g3, ↓zt_g4, ↓zt_g5, ↓zt_g6, ↓zt_g7, ↓zt_g8, ↓zt_g9, ↓zt_g10, ↓zt_g11, ↓zt_g12, ↓zt_g13, ↓zt_g14, ↓zt_g15, ↓zt_g16, ↓zt_g17, ↓zt_g18, ↓zt_g19, ↓zt_g20, ↓zt_g21, ↓zt_g22, ↓zt_g23, ↓zt_g24, ↓zt_g25, ↓zt_g26, ↓zt_g27, ↓zt_g28, ↓zt_g29, ↓zt_g30, ↓zt_g31, ↓zt_g32, ↓zt_g33, ↓zt_g34, ↓zt_g35, ↓zt_g36, ↓zt_g37, ↓zt_g38, ↓zt_g39, ↓zt_g40, ↓zt_a1, ↓zt_a2, ↓zt_a3, ↓zt_a4, ↓zt_a5, ↓zt_a6, ↓zt_a7, ↓zt_a8, ↓zt_a9, ↓zt_a10, ↓zt_a11, ↓zt_a12, ↓zt_a13, ↓zt_a14, ↓zt_a15, ↓zt_a16, ↓zt_a17, ↓zt_a18, ↓zt_a19, ↓zt_a20, ↓zt_a21, ↓zt_l19, ↓zt_l17, forall_eq, ↓zqI_r, ↓zqL_r, ↓zqD_r, ↓zqF_r, ↓zqV_r, ↓zqR_r, ↓zqR_s, zboolb, zbool0, zbool1, true_and, and_true, zi_0, zj_0, zi_1, zj_1, zi_2, zj_2, zi_3, zj_3, zi_4, zj_4, zi_5, zj_5, zi_6, zj_6, zi_7, zj_7, zi_8, zj_8, zi_9, zj_9, zi_10, zj_10, true_and, and_true, hM, zs_c2 V]
  rw [iI_le (by omega) (by omega) (by omega) (by omega)]
  unfold zs_po at h
  refine ⟨fun h1 => ?_, fun h1 => ?_⟩
  · rw [if_neg (by omega)] at h
    refine zl_191.mpr ?_
    rw [ej, nI_cl (by omega), hM, lja]
    refine ⟨nI_i (by omega) (by omega), ?_⟩
    simp only [forall_eq, ↓zqI_r, ↓zqL_r, ↓zqD_r, ↓zqF_r, ↓zqV_r, ↓zqR_r, ↓zqR_s]
    refine zf4 0 (zs_n V) (fun k x y s' => s' = zt_S σ m N M ∧ x = iI (zs_pay V (zs_li V true i) (zs_li V false j) k).1 ∧ y = iI (zs_pay V (zs_li V true i) (zs_li V false j) k).2) (by omega) ?_ ?_ ⟨rfl, rfl, rfl⟩
    · rintro rec k x y s' _ hk ⟨rfl, rfl, rfl⟩ hrec
      have hp0 := hV.pr (f := 0) hk (by omega)
      have hpb := zs_pay_b hV (zs_li V true i) (zs_li V false j) k (by omega)
      simp only [↓zt_rc, ↓zt_g0, ↓zt_g1, ↓zt_g2, ↓zt_g3, ↓zt_g4, ↓zt_g5, ↓zt_g6, ↓zt_g7, ↓zt_g8, ↓zt_g9, ↓zt_g10, ↓zt_g11, ↓zt_g12, ↓zt_g13, ↓zt_g14, ↓zt_g15, ↓zt_g16, ↓zt_g17, ↓zt_g18, ↓zt_g19, ↓zt_g20, ↓zt_g21, ↓zt_g22, ↓zt_g23, ↓zt_g24, ↓zt_g25, ↓zt_g26, ↓zt_g27, ↓zt_g28, ↓zt_g29, ↓zt_g30, ↓zt_g31, ↓zt_g32, ↓zt_g33, ↓zt_g34, ↓zt_g35, ↓zt_g36, ↓zt_g37, ↓zt_g38, ↓zt_g39, ↓zt_g40, ↓zt_a1, ↓zt_a2, ↓zt_a3, ↓zt_a4, ↓zt_a5, ↓zt_a6, ↓zt_a7, ↓zt_a8, ↓zt_a9, ↓zt_a10, ↓zt_a11, ↓zt_a12, ↓zt_a13, ↓zt_a14, ↓zt_a15, ↓zt_a16, ↓zt_a17, ↓zt_a18, ↓zt_a19, ↓zt_a20, ↓zt_a21, ↓zt_l19, ↓zt_l17, forall_eq, ↓zqI_r, ↓zqL_r, ↓zqD_r, ↓zqF_r, ↓zqV_r, ↓zqR_r, ↓zqR_s, zboolb, zbool0, zbool1, true_and, and_true, ↓zl_159, zJ, hM, hn.1, ↓zl_of0 hM hV hk, ↓zl_of3 hM hV hk, zx_notb (show zs_li V false j < 2147483648 by omega) (show zs_li V true i < 2147483648 by omega) (show k < 31 by omega), iI_sub]
      rw [iI_lt (by omega) (by omega) (by omega) (by omega)]
      refine ⟨fun hle => absurd hle (nI_ge hk (by omega)), fun _ => ⟨fun h2 => hrec _ _ _ ⟨rfl, ?_⟩, fun h2 => ⟨fun h3 => hrec _ _ _ ⟨rfl, ?_⟩, fun h3 => hrec _ _ _ ⟨rfl, ?_⟩⟩⟩⟩
      · simp only [zs_pay]
        rw [if_neg (fun h9 => h2 h9.1)]
        exact ⟨rfl, rfl⟩
      · simp only [zs_pay]
        rw [if_neg (fun h9 => by omega)]
        exact ⟨rfl, rfl⟩
      · simp only [zs_pay]
        rw [if_pos ⟨h2, by omega⟩]
        exact ⟨rfl, rfl⟩
    · rintro rec x y s' ⟨rfl, rfl, rfl⟩
      simp only [↓zt_rc, ↓zt_g0, ↓zt_g1, ↓zt_g2, ↓zt_g3, ↓zt_g4, ↓zt_g5, ↓zt_g6, ↓zt_g7, ↓zt_g8, ↓zt_g9, ↓zt_g10, ↓zt_g11, ↓zt_g12, ↓zt_g13, ↓zt_g14, ↓zt_g15, ↓zt_g16, ↓zt_g17, ↓zt_g18, ↓zt_g19, ↓zt_g20, ↓zt_g21, ↓zt_g22, ↓zt_g23, ↓zt_g24, ↓zt_g25, ↓zt_g26, ↓zt_g27, ↓zt_g28, ↓zt_g29, ↓zt_g30, ↓zt_g31, ↓zt_g32, ↓zt_g33, ↓zt_g34, ↓zt_g35, ↓zt_g36, ↓zt_g37, ↓zt_g38, ↓zt_g39, ↓zt_g40, ↓zt_a1, ↓zt_a2, ↓zt_a3, ↓zt_a4, ↓zt_a5, ↓zt_a6, ↓zt_a7, ↓zt_a8, ↓zt_a9, ↓zt_a10, ↓zt_a11, ↓zt_a12, ↓zt_a13, ↓zt_a14, ↓zt_a15, ↓zt_a16, ↓zt_a17, ↓zt_a18, ↓zt_a19, ↓zt_a20, ↓zt_a21, ↓zt_l19, ↓zt_l17, forall_eq, ↓zqI_r, ↓zqL_r, ↓zqD_r, ↓zqF_r, ↓zqV_r, ↓zqR_r, ↓zqR_s, zboolb, zbool0, zbool1, true_and, and_true, ↓zl_159, hM, hn.1]
      exact ⟨fun _ => h, fun hn => absurd (nI_le (Nat.le_refl _) (by omega)) hn⟩
  · rw [if_pos (by omega)] at h
    exact h
theorem zt_193 (hm : G.1 ≤ m) (hM : M.2.2.1 1 = V) (hV : zs_ok V) {x y : Int32} (h0 : zs_isl V true x → zs_isl V false y → ∀ M', zt_pe 0 M M' → Q (some (.int (iI (zs_po V (zs_li V true x.toNatClampNeg) (zs_li V false y.toNatClampNeg))))) (zt_S σ m N M')) (h1 : ¬ (zs_isl V true x ∧ zs_isl V false y) → ∀ M', zt_pe 1 M M' → Q (some (.int 0)) (zt_S σ m N M')) : zCall G (n + 6) 193 [.ref m, .int x, .int y] Q Y (zt_S σ m N M) := by
  obtain ⟨-, x2, -⟩ := zx_ci (b := true) (x := 1) (by decide)
  have i5 : (0 ≤ y ∧ y ≤ V 5 - 1) ↔ zs_isl V false y := zs_isl_iff hV (b := false)
  refine ze193 ⟨_, _, _, rfl, ?_⟩
  simp only [↓zt_rc, ↓zt_g0, ↓zt_g1, ↓zt_g2, ↓zt_g3, ↓zt_g4, ↓zt_g5, ↓zt_g6, ↓zt_g7, ↓zt_g8, ↓zt_g9, ↓zt_g10, ↓zt_g11, ↓zt_g12, ↓zt_g13, ↓zt_g14, ↓zt_g15, ↓zt_g16, ↓zt_g17, ↓zt_g18, ↓zt_g19, ↓zt_g20, ↓zt_g21, ↓zt_g22, ↓zt_g23, ↓zt_g24, ↓zt_g25, ↓zt_g26, ↓zt_g27, ↓zt_g28, ↓zt_g29, ↓zt_g30, ↓zt_g31, ↓zt_g32, ↓zt_g33, ↓zt_g34, ↓zt_g35, ↓zt_g36, ↓zt_g37, ↓zt_g38, ↓zt_g39, ↓zt_g40, ↓zt_p4 hm, ↓zt_p5 hm, ↓zt_p6 hm, ↓zt_p15 hm, ↓zt_p21 hm, ↓zt_p22 hm, ↓zt_p23 hm, ↓zt_p26 hm, ↓zt_p28 hm, ↓zt_p29 hm, ↓zt_p30 hm, ↓zt_p31 hm, ↓zt_p32 hm, ↓zt_p33 hm, ↓zt_p34 hm, ↓zt_p35 hm, ↓zt_p36 hm, ↓zt_p40 hm, ↓zt_p19 hm, ↓zt_p20 hm, ↓zt_a1, ↓zt_a2, ↓zt_a3, ↓zt_a4, ↓zt_a5, ↓zt_a6, ↓zt_a7, ↓zt_a8, ↓zt_a9, ↓zt_a10, ↓zt_a11, ↓zt_a12, ↓zt_a13, ↓zt_a14, ↓zt_a15, ↓zt_a16, ↓zt_a17, ↓zt_a18, ↓zt_a19, ↓zt_a20, ↓zt_a21, ↓zt_s1 hm, ↓zt_s2 hm, ↓zt_s3 hm, ↓zt_s4 hm, ↓zt_s5 hm, ↓zt_s6 hm, ↓zt_s7 hm, ↓zt_s8 hm, ↓zt_s9 hm, ↓zt_s10 hm, ↓zt_s11 hm, ↓zt_s12 hm, ↓zt_s16 hm, ↓zt_s17 hm, ↓zt_s18 hm, ↓zt_s20 hm, ↓zt_s13 hm, ↓zt_s14 hm, ↓zt_s15 hm, ↓zt_s21 hm, ↓zt_l19, ↓zt_l17, forall_eq, ↓zqI_r, ↓zqL_r, ↓zqD_r, ↓zqF_r, ↓zqV_r, ↓zqR_r, ↓zqR_s, zboolb, zbool0, zbool1, true_and, and_true, ↓zl_188, ↓zl_163 hm, zJ, zs_b0, Classical.not_not, x2, if_true, hM, i5, zs_isl_iff hV]
  refine ⟨fun hi => h1 (fun h9 => hi h9.1) _ (zt_pe.re zt_pe.thr), fun hi => ⟨fun hj => h1 (fun h9 => hj h9.2) _ (zt_pe.re zt_pe.thr), fun hj => ?_⟩⟩
  obtain ⟨e, hk⟩ := zs_isl_of hi
  obtain ⟨e2, hk2⟩ := zs_isl_of hj
  have h0 := h0 hi hj
  rw [e, e2]
  generalize x.toNatClampNeg = i at *
  generalize y.toNatClampNeg = j at *
  refine zt_194 (by exact hM) hV hk hk2 ?_
  simp only [forall_eq, ↓zqI_r, ↓zqL_r, ↓zqD_r, ↓zqF_r, ↓zqV_r, ↓zqR_r, ↓zqR_s]
  exact h0 _ zt_pe.thr
theorem zsw7 (x : Int32) (k : Nat) (hk : k < 2147483648) (h : ¬ (x.toInt < 0 ∨ (k : Int) < x.toInt)) : ∃ j : Nat, j ≤ k ∧ x = nI j := ⟨x.toInt.toNat, by omega, by rw [← iI_nat, show ((x.toInt.toNat : Nat) : Int) = x.toInt by omega, iI_of]⟩
theorem zt_157 (hm : G.1 ≤ m) (hM : M.2.2.1 1 = V) (hV : zs_ok V) {x : Int32} (h0 : ∀ k, k ≤ 6 → x = nI k → ∀ M', zt_pe 0 M M' → Q (some (.int (if k = 6 then nI (zs_pm V) else V k))) (zt_S σ m N M')) (h1 : x.toInt < 0 ∨ 6 < x.toInt → ∀ M', zt_pe 1 M M' → Q (some (.int 0)) (zt_S σ m N M')) : zCall G (n + 5) 157 [.ref m, .int x] Q Y (zt_S σ m N M) := by
  refine ze157 ⟨_, _, rfl, ?_⟩
  simp only [↓zt_rc, ↓zt_g0, ↓zt_g1, ↓zt_g2, ↓zt_g3, ↓zt_g4, ↓zt_g5, ↓zt_g6, ↓zt_g7, ↓zt_g8, ↓zt_g9, ↓zt_g10, ↓zt_g11, ↓zt_g12, ↓zt_g13, ↓zt_g14, ↓zt_g15, ↓zt_g16, ↓zt_g17, ↓zt_g18, ↓zt_g19, ↓zt_g20, ↓zt_g21, ↓zt_g22, ↓zt_g23, ↓zt_g24, ↓zt_g25, ↓zt_g26, ↓zt_g27, ↓zt_g28, ↓zt_g29, ↓zt_g30, ↓zt_g31, ↓zt_g32, ↓zt_g33, ↓zt_g34, ↓zt_g35, ↓zt_g36, ↓zt_g37, ↓zt_g38, ↓zt_g39, ↓zt_g40, ↓zt_p4 hm, ↓zt_p5 hm, ↓zt_p6 hm, ↓zt_p15 hm, ↓zt_p21 hm, ↓zt_p22 hm, ↓zt_p23 hm, ↓zt_p26 hm, ↓zt_p28 hm, ↓zt_p29 hm, ↓zt_p30 hm, ↓zt_p31 hm, ↓zt_p32 hm, ↓zt_p33 hm, ↓zt_p34 hm, ↓zt_p35 hm, ↓zt_p36 hm, ↓zt_p40 hm, ↓zt_p19 hm, ↓zt_p20 hm, ↓zt_a1, ↓zt_a2, ↓zt_a3, ↓zt_a4, ↓zt_a5, ↓zt_a6, ↓zt_a7, ↓zt_a8, ↓zt_a9, ↓zt_a10, ↓zt_a11, ↓zt_a12, ↓zt_a13, ↓zt_a14, ↓zt_a15, ↓zt_a16, ↓zt_a17, ↓zt_a18, ↓zt_a19, ↓zt_a20, ↓zt_a21, ↓zt_s1 hm, ↓zt_s2 hm, ↓zt_s3 hm, ↓zt_s4 hm, ↓zt_s5 hm, ↓zt_s6 hm, ↓zt_s7 hm, ↓zt_s8 hm, ↓zt_s9 hm, ↓zt_s10 hm, ↓zt_s11 hm, ↓zt_s12 hm, ↓zt_s16 hm, ↓zt_s17 hm, ↓zt_s18 hm, ↓zt_s20 hm, ↓zt_s13 hm, ↓zt_s14 hm, ↓zt_s15 hm, ↓zt_s21 hm, ↓zt_l19, ↓zt_l17, forall_eq, ↓zqI_r, ↓zqL_r, ↓zqD_r, ↓zqF_r, ↓zqV_r, ↓zqR_r, ↓zqR_s, zboolb, zbool0, zbool1, true_and, and_true, ↓zl_163 hm, zJ, hM]
  refine ⟨fun h9 => h1 h9 _ (zt_pe.re zt_pe.thr), ?_, ?_, ?_, ?_, ?_, ?_, ?_⟩
  · rintro rfl; exact ⟨by simp only [zi_0, zj_0, zi_1, zj_1, zi_2, zj_2, zi_3, zj_3, zi_4, zj_4, zi_5, zj_5, zi_6, zj_6, zi_7, zj_7, zi_8, zj_8, zi_9, zj_9, zi_10, zj_10, true_and, and_true], h0 0 (by omega) rfl _ zt_pe.thr⟩
  · rintro rfl; exact ⟨by simp only [zi_0, zj_0, zi_1, zj_1, zi_2, zj_2, zi_3, zj_3, zi_4, zj_4, zi_5, zj_5, zi_6, zj_6, zi_7, zj_7, zi_8, zj_8, zi_9, zj_9, zi_10, zj_10, true_and, and_true], h0 1 (by omega) rfl _ zt_pe.thr⟩
  · rintro rfl; exact ⟨by simp only [zi_0, zj_0, zi_1, zj_1, zi_2, zj_2, zi_3, zj_3, zi_4, zj_4, zi_5, zj_5, zi_6, zj_6, zi_7, zj_7, zi_8, zj_8, zi_9, zj_9, zi_10, zj_10, true_and, and_true], h0 2 (by omega) rfl _ zt_pe.thr⟩
  · rintro rfl; exact ⟨by simp only [zi_0, zj_0, zi_1, zj_1, zi_2, zj_2, zi_3, zj_3, zi_4, zj_4, zi_5, zj_5, zi_6, zj_6, zi_7, zj_7, zi_8, zj_8, zi_9, zj_9, zi_10, zj_10, true_and, and_true], h0 3 (by omega) rfl _ zt_pe.thr⟩
  · rintro rfl; exact ⟨by simp only [zi_0, zj_0, zi_1, zj_1, zi_2, zj_2, zi_3, zj_3, zi_4, zj_4, zi_5, zj_5, zi_6, zj_6, zi_7, zj_7, zi_8, zj_8, zi_9, zj_9, zi_10, zj_10, true_and, and_true], h0 4 (by omega) rfl _ zt_pe.thr⟩
  · rintro rfl; exact ⟨by simp only [zi_0, zj_0, zi_1, zj_1, zi_2, zj_2, zi_3, zj_3, zi_4, zj_4, zi_5, zj_5, zi_6, zj_6, zi_7, zj_7, zi_8, zj_8, zi_9, zj_9, zi_10, zj_10, true_and, and_true], h0 5 (by omega) rfl _ zt_pe.thr⟩
  · rintro rfl
    refine zt_158 (by exact hM) hV ?_
    simp only [forall_eq, ↓zqI_r, ↓zqL_r, ↓zqD_r, ↓zqF_r, ↓zqV_r, ↓zqR_r, ↓zqR_s]
    exact h0 6 (by omega) rfl _ zt_pe.thr
theorem zt_215 (hm : G.1 ≤ m) (hM : M.2.2.1 1 = V) (hV : zs_ok V) {x : Int32} (h0 : ∀ k, k ≤ 5 → x = nI k → ∀ M', zt_pe 0 M M' → Q (some (.int (if k = 0 then V 6 else if k = 1 then V 7 else if k = 2 then iI (zs_rest V (zs_us V)) else if k = 3 then iI (zs_w V 1 (V 6).toNatClampNeg - zs_w V 3 (V 7).toNatClampNeg) else if k = 4 then (if zs_ov V = true then -1 else V 8) else V 10))) (zt_S σ m N M')) (h1 : x.toInt < 0 ∨ 5 < x.toInt → ∀ M', zt_pe 1 M M' → Q (some (.int 0)) (zt_S σ m N M')) : zCall G (n + 6) 215 [.ref m, .int x] Q Y (zt_S σ m N M) := by
  have hu := hV.us
  have hA := hV.all
  refine ze215 ⟨_, _, rfl, ?_⟩
  simp only [↓zt_rc, ↓zt_g0, ↓zt_g1, ↓zt_g2, ↓zt_g3, ↓zt_g4, ↓zt_g5, ↓zt_g6, ↓zt_g7, ↓zt_g8, ↓zt_g9, ↓zt_g10, ↓zt_g11, ↓zt_g12, ↓zt_g13, ↓zt_g14, ↓zt_g15, ↓zt_g16, ↓zt_g17, ↓zt_g18, ↓zt_g19, ↓zt_g20, ↓zt_g21, ↓zt_g22, ↓zt_g23, ↓zt_g24, ↓zt_g25, ↓zt_g26, ↓zt_g27, ↓zt_g28, ↓zt_g29, ↓zt_g30, ↓zt_g31, ↓zt_g32, ↓zt_g33, ↓zt_g34, ↓zt_g35, ↓zt_g36, ↓zt_g37, ↓zt_g38, ↓zt_g39, ↓zt_g40, ↓zt_p4 hm, ↓zt_p5 hm, ↓zt_p6 hm, ↓zt_p15 hm, ↓zt_p21 hm, ↓zt_p22 hm, ↓zt_p23 hm, ↓zt_p26 hm, ↓zt_p28 hm, ↓zt_p29 hm, ↓zt_p30 hm, ↓zt_p31 hm, ↓zt_p32 hm, ↓zt_p33 hm, ↓zt_p34 hm, ↓zt_p35 hm, ↓zt_p36 hm, ↓zt_p40 hm, ↓zt_p19 hm, ↓zt_p20 hm, ↓zt_a1, ↓zt_a2, ↓zt_a3, ↓zt_a4, ↓zt_a5, ↓zt_a6, ↓zt_a7, ↓zt_a8, ↓zt_a9, ↓zt_a10, ↓zt_a11, ↓zt_a12, ↓zt_a13, ↓zt_a14, ↓zt_a15, ↓zt_a16, ↓zt_a17, ↓zt_a18, ↓zt_a19, ↓zt_a20, ↓zt_a21, ↓zt_s1 hm, ↓zt_s2 hm, ↓zt_s3 hm, ↓zt_s4 hm, ↓zt_s5 hm, ↓zt_s6 hm, ↓zt_s7 hm, ↓zt_s8 hm, ↓zt_s9 hm, ↓zt_s10 hm, ↓zt_s11 hm, ↓zt_s12 hm, ↓zt_s16 hm, ↓zt_s17 hm, ↓zt_s18 hm, ↓zt_s20 hm, ↓zt_s13 hm, ↓zt_s14 hm, ↓zt_s15 hm, ↓zt_s21 hm, ↓zt_l19, ↓zt_l17, forall_eq, ↓zqI_r, ↓zqL_r, ↓zqD_r, ↓zqF_r, ↓zqV_r, ↓zqR_r, ↓zqR_s, zboolb, zbool0, zbool1, true_and, and_true, ↓zl_163 hm, ↓zl_216, zJ, hM, hu.1]
  refine ⟨fun h9 => h1 h9 _ (zt_pe.re zt_pe.thr), ?_, ?_, ?_, ?_, ?_, ?_⟩
  · rintro rfl; exact ⟨nI_i (k := 6) (by omega) (by omega), h0 0 (by omega) rfl _ zt_pe.thr⟩
  · rintro rfl; exact ⟨nI_i (k := 7) (by omega) (by omega), h0 1 (by omega) rfl _ zt_pe.thr⟩
  · rintro rfl
    refine zt_160 (by exact hM) hV (by omega) ?_
    simp only [forall_eq, ↓zqI_r, ↓zqL_r, ↓zqD_r, ↓zqF_r, ↓zqV_r, ↓zqR_r, ↓zqR_s]
    exact h0 2 (by omega) rfl _ zt_pe.thr
  · rintro rfl
    refine zt_217 (by exact hM) hV hV.g6.2 hV.g7.2 hV.g6.1 hV.g7.1 ?_
    simp only [forall_eq, ↓zqI_r, ↓zqL_r, ↓zqD_r, ↓zqF_r, ↓zqV_r, ↓zqR_r, ↓zqR_s]
    exact h0 3 (by omega) rfl _ zt_pe.thr
  · rintro rfl
    refine zt_218 hm (by exact hM) hV (fun M' hk => ?_)
    simp only [forall_eq, ↓zqI_r, ↓zqL_r, ↓zqD_r, ↓zqF_r, ↓zqV_r, ↓zqR_r, ↓zqR_s]
    exact h0 4 (by omega) rfl M' ((zt_pe.thr).kp hk (by omega) (by omega))
  · rintro rfl
    exact ⟨by simp only [zi_0, zj_0, zi_1, zj_1, zi_2, zj_2, zi_3, zj_3, zi_4, zj_4, zi_5, zj_5, zi_6, zj_6, zi_7, zj_7, zi_8, zj_8, zi_9, zj_9, zi_10, zj_10, true_and, and_true], h0 5 (by omega) rfl _ zt_pe.thr⟩
theorem zs_res_t {V : zs_V} {t : Int} {p : Nat} (hf : zs_fit V p) : (if zs_rest V p < t then zs_w V 1 p else zs_rs V true 0 p) = zs_res V true t p := by
  have hf' : zs_w V 0 p ≤ zs_cap V := hf
  rw [zs_rs_fit hf]
  unfold zs_res zs_rep zs_rest
  by_cases h : zs_cap V - zs_w V 0 p < t
  · rw [if_pos h, if_pos h, zs_w0]
    omega
  · rw [if_neg h, if_neg h, if_neg (by omega)]
theorem zt_183 (hm : G.1 ≤ m) (hM : M.2.2.1 1 = V) (hV : zs_ok V) {x : Int32} (h0 : ∀ t : Nat, t ≤ 200 → 0 < zs_pw V x.toInt t → (∀ t' : Nat, t' < t → zs_pw V x.toInt t' = 0) → ∀ M', zt_pe 0 M M' → Q (some (.int (nI t))) (zt_S σ m N M')) (h1 : (∀ t : Nat, t ≤ 200 → zs_pw V x.toInt t = 0) → ∀ M', zt_pe 0 M M' → Q (some (.int (-1))) (zt_S σ m N M')) : zCall G (n + 6) 183 [.ref m, .int x] Q Y (zt_S σ m N M) := by
  have hA := hV.all
  refine ze183 ⟨_, _, rfl, ?_⟩
  simp only [↓zt_rc, ↓zt_g0, ↓zt_g1, ↓zt_g2, ↓zt_g3, ↓zt_g4, ↓zt_g5, ↓zt_g6, ↓zt_g7, ↓zt_g8, ↓zt_g9, ↓zt_g10, ↓zt_g11, ↓zt_g12, ↓zt_g13, ↓zt_g14, ↓zt_g15, ↓zt_g16, ↓zt_g17, ↓zt_g18, ↓zt_g19, ↓zt_g20, ↓zt_g21, ↓zt_g22, ↓zt_g23, ↓zt_g24, ↓zt_g25, ↓zt_g26, ↓zt_g27, ↓zt_g28, ↓zt_g29, ↓zt_g30, ↓zt_g31, ↓zt_g32, ↓zt_g33, ↓zt_g34, ↓zt_g35, ↓zt_g36, ↓zt_g37, ↓zt_g38, ↓zt_g39, ↓zt_g40, ↓zt_p4 hm, ↓zt_p5 hm, ↓zt_p6 hm, ↓zt_p15 hm, ↓zt_p21 hm, ↓zt_p22 hm, ↓zt_p23 hm, ↓zt_p26 hm, ↓zt_p28 hm, ↓zt_p29 hm, ↓zt_p30 hm, ↓zt_p31 hm, ↓zt_p32 hm, ↓zt_p33 hm, ↓zt_p34 hm, ↓zt_p35 hm, ↓zt_p36 hm, ↓zt_p40 hm, ↓zt_p19 hm, ↓zt_p20 hm, ↓zt_a1, ↓zt_a2, ↓zt_a3, ↓zt_a4, ↓zt_a5, ↓zt_a6, ↓zt_a7, ↓zt_a8, ↓zt_a9, ↓zt_a10, ↓zt_a11, ↓zt_a12, ↓zt_a13, ↓zt_a14, ↓zt_a15, ↓zt_a16, ↓zt_a17, ↓zt_a18, ↓zt_a19, ↓zt_a20, ↓zt_a21, ↓zt_s1 hm, ↓zt_s2 hm, ↓zt_s3 hm, ↓zt_s4 hm, ↓zt_s5 hm, ↓zt_s6 hm, ↓zt_s7 hm, ↓zt_s8 hm, ↓zt_s9 hm, ↓zt_s10 hm, ↓zt_s11 hm, ↓zt_s12 hm, ↓zt_s16 hm, ↓zt_s17 hm, ↓zt_s18 hm, ↓zt_s20 hm, ↓zt_s13 hm, ↓zt_s14 hm, ↓zt_s15 hm, ↓zt_s21 hm, ↓zt_l19, ↓zt_l17, forall_eq, ↓zqI_r, ↓zqL_r, ↓zqD_r, ↓zqF_r, ↓zqV_r, ↓zqR_r, ↓zqR_s, zboolb, zbool0, zbool1, true_and, and_true]
  refine zt_178 (g := true) (x := 0) hm (by exact hM) hV (by decide) (fun M' hk hl hr => ?_)
  have e1 : M'.2.2.1 1 = V := (hk.2.2.2 1 (by omega)).trans hM
  have hpe : zt_pe 0 M M' := (zt_pe.thr).kp hk (by omega) (by omega)
  have hr : zt_lr V true 0 M' (zs_all V) := hr
  simp only [forall_eq, ↓zqI_r, ↓zqL_r, ↓zqD_r, ↓zqF_r, ↓zqV_r, ↓zqR_r, ↓zqR_s]
  refine zf2 0 201 (fun t s' => s' = zt_S σ m N M' ∧ ∀ t' : Nat, t' < t → zs_pw V x.toInt t' = 0) (by omega) ?_ ?_ ⟨rfl, fun t' h => absurd h (by omega)⟩
  · rintro rec t s' _ ht ⟨rfl, hno⟩ hrec
    refine ⟨fun h9 => absurd h9 (nI_nlt (a := 200) (by omega) (by omega)), fun _ => ?_⟩
    refine zf2 0 (zs_all V) (fun p s' => s' = zt_S σ m N M' ∧ zs_ct (fun p => zs_w V 0 p ≤ zs_cap V ∧ x.toInt ≤ zs_res V true (t : Int) p) p = 0) (by omega) ?_ ?_ ⟨rfl, rfl⟩
    · rintro rec2 p s' _ hp ⟨rfl, hz⟩ hrec2
      have hrb := zs_rest_b hV p
      have hsb := zs_rs_b hV (g := true) (t := 0) (p := p)
      have hw1 := zs_w_b hV (f := 1) (by omega) p
      have h6 : M'.2.2.1 6 p = iI (zs_w V 1 p) := hl 1 (by omega) p hp
      have et : nI t ≤ iI (zs_rest V p) ↔ ¬ zs_rest V p < t := by
        rw [← iI_nat, iI_le (by omega) (by omega) (by omega) (by omega)]
        omega
      simp only [↓zt_rc, ↓zt_g0, ↓zt_g1, ↓zt_g2, ↓zt_g3, ↓zt_g4, ↓zt_g5, ↓zt_g6, ↓zt_g7, ↓zt_g8, ↓zt_g9, ↓zt_g10, ↓zt_g11, ↓zt_g12, ↓zt_g13, ↓zt_g14, ↓zt_g15, ↓zt_g16, ↓zt_g17, ↓zt_g18, ↓zt_g19, ↓zt_g20, ↓zt_g21, ↓zt_g22, ↓zt_g23, ↓zt_g24, ↓zt_g25, ↓zt_g26, ↓zt_g27, ↓zt_g28, ↓zt_g29, ↓zt_g30, ↓zt_g31, ↓zt_g32, ↓zt_g33, ↓zt_g34, ↓zt_g35, ↓zt_g36, ↓zt_g37, ↓zt_g38, ↓zt_g39, ↓zt_g40, ↓zt_p4 hm, ↓zt_p5 hm, ↓zt_p6 hm, ↓zt_p15 hm, ↓zt_p21 hm, ↓zt_p22 hm, ↓zt_p23 hm, ↓zt_p26 hm, ↓zt_p28 hm, ↓zt_p29 hm, ↓zt_p30 hm, ↓zt_p31 hm, ↓zt_p32 hm, ↓zt_p33 hm, ↓zt_p34 hm, ↓zt_p35 hm, ↓zt_p36 hm, ↓zt_p40 hm, ↓zt_p19 hm, ↓zt_p20 hm, ↓zt_a1, ↓zt_a2, ↓zt_a3, ↓zt_a4, ↓zt_a5, ↓zt_a6, ↓zt_a7, ↓zt_a8, ↓zt_a9, ↓zt_a10, ↓zt_a11, ↓zt_a12, ↓zt_a13, ↓zt_a14, ↓zt_a15, ↓zt_a16, ↓zt_a17, ↓zt_a18, ↓zt_a19, ↓zt_a20, ↓zt_a21, ↓zt_s1 hm, ↓zt_s2 hm, ↓zt_s3 hm, ↓zt_s4 hm, ↓zt_s5 hm, ↓zt_s6 hm, ↓zt_s7 hm, ↓zt_s8 hm, ↓zt_s9 hm, ↓zt_s10 hm, ↓zt_s11 hm, ↓zt_s12 hm, ↓zt_s16 hm, ↓zt_s17 hm, ↓zt_s18 hm, ↓zt_s20 hm, ↓zt_s13 hm, ↓zt_s14 hm, ↓zt_s15 hm, ↓zt_s21 hm, ↓zt_l19, ↓zt_l17, forall_eq, ↓zqI_r, ↓zqL_r, ↓zqD_r, ↓zqF_r, ↓zqV_r, ↓zqR_r, ↓zqR_s, zboolb, zbool0, zbool1, true_and, and_true, ↓zl_159, zJ, ↓zl_rest e1 hV hl hp, ↓zl_fit e1 hV hl hp, ↓zl_res hV hl hr hp, zs_b0, Classical.not_not, et, nI_cl (show p < 2147483648 by omega), h6]
      rw [zl_shl e1 hV]
      refine ⟨fun hle => absurd hle (nI_ge hp (by omega)), fun _ => ?_⟩
      have fin : ∀ v : Int, -990 ≤ v → v ≤ 990 → (zs_fit V p → v = zs_res V true (t : Int) p) → ((¬ zs_w V 0 p ≤ zs_cap V → rec2 (nI p + 1) (zt_S σ m N M')) ∧ (zs_w V 0 p ≤ zs_cap V → ((iI v < x → rec2 (nI p + 1) (zt_S σ m N M')) ∧ (¬ iI v < x → Q (some (.int (nI t))) (zt_S σ m N M'))))) := by
        intro v hv1 hv2 hv
        have ev : iI v < x ↔ ¬ x.toInt ≤ v := by
          rw [fa_lt, iI_to (by omega) (by omega)]
          omega
        rw [ev]
        refine ⟨fun hnf => hrec2 _ ⟨rfl, ?_⟩, fun hf => ⟨fun hlt => hrec2 _ ⟨rfl, ?_⟩, fun hge => ?_⟩⟩
        · simp only [zs_ct]
          rw [hz, if_neg (fun h9 => hnf h9.1)]
        · simp only [zs_ct]
          rw [hz, if_neg (fun h9 => hlt (by rw [hv hf]; exact h9.2))]
        · refine h0 t (by omega) ?_ hno M' hpe
          have h3 : 0 < zs_ct (fun p => zs_w V 0 p ≤ zs_cap V ∧ x.toInt ≤ zs_res V true (t : Int) p) (p + 1) := by
            simp only [zs_ct]
            rw [if_pos ⟨hf, by rw [← hv hf]; exact Classical.not_not.mp hge⟩]
            omega
          have mono : ∀ j i, zs_ct (fun p => zs_w V 0 p ≤ zs_cap V ∧ x.toInt ≤ zs_res V true (t : Int) p) i ≤ zs_ct (fun p => zs_w V 0 p ≤ zs_cap V ∧ x.toInt ≤ zs_res V true (t : Int) p) (i + j) := by
            intro j
            induction j with
            | zero => intro i; exact Nat.le_refl _
            | succ j ih =>
              intro i
              have := ih i
              rw [show i + (j + 1) = (i + j) + 1 by omega]
              simp only [zs_ct]
              omega
          have h4 := mono (zs_all V - (p + 1)) (p + 1)
          rw [show p + 1 + (zs_all V - (p + 1)) = zs_all V by omega] at h4
          unfold zs_pw
          omega
      refine ⟨fun hge => ?_, fun hlt => ?_⟩
      · exact fin _ hsb.1 hsb.2 (fun hf => by rw [← zs_res_t hf, if_neg hge])
      · exact ⟨nI_i (by omega) (by omega), fin _ (by omega) (by omega) (fun hf => by rw [← zs_res_t hf, if_pos hlt])⟩
    · rintro rec2 s' ⟨rfl, hz⟩
      simp only [↓zt_rc, ↓zt_g0, ↓zt_g1, ↓zt_g2, ↓zt_g3, ↓zt_g4, ↓zt_g5, ↓zt_g6, ↓zt_g7, ↓zt_g8, ↓zt_g9, ↓zt_g10, ↓zt_g11, ↓zt_g12, ↓zt_g13, ↓zt_g14, ↓zt_g15, ↓zt_g16, ↓zt_g17, ↓zt_g18, ↓zt_g19, ↓zt_g20, ↓zt_g21, ↓zt_g22, ↓zt_g23, ↓zt_g24, ↓zt_g25, ↓zt_g26, ↓zt_g27, ↓zt_g28, ↓zt_g29, ↓zt_g30, ↓zt_g31, ↓zt_g32, ↓zt_g33, ↓zt_g34, ↓zt_g35, ↓zt_g36, ↓zt_g37, ↓zt_g38, ↓zt_g39, ↓zt_g40, ↓zt_p4 hm, ↓zt_p5 hm, ↓zt_p6 hm, ↓zt_p15 hm, ↓zt_p21 hm, ↓zt_p22 hm, ↓zt_p23 hm, ↓zt_p26 hm, ↓zt_p28 hm, ↓zt_p29 hm, ↓zt_p30 hm, ↓zt_p31 hm, ↓zt_p32 hm, ↓zt_p33 hm, ↓zt_p34 hm, ↓zt_p35 hm, ↓zt_p36 hm, ↓zt_p40 hm, ↓zt_p19 hm, ↓zt_p20 hm, ↓zt_a1, ↓zt_a2, ↓zt_a3, ↓zt_a4, ↓zt_a5, ↓zt_a6, ↓zt_a7, ↓zt_a8, ↓zt_a9, ↓zt_a10, ↓zt_a11, ↓zt_a12, ↓zt_a13, ↓zt_a14, ↓zt_a15, ↓zt_a16, ↓zt_a17, ↓zt_a18, ↓zt_a19, ↓zt_a20, ↓zt_a21, ↓zt_s1 hm, ↓zt_s2 hm, ↓zt_s3 hm, ↓zt_s4 hm, ↓zt_s5 hm, ↓zt_s6 hm, ↓zt_s7 hm, ↓zt_s8 hm, ↓zt_s9 hm, ↓zt_s10 hm, ↓zt_s11 hm, ↓zt_s12 hm, ↓zt_s16 hm, ↓zt_s17 hm, ↓zt_s18 hm, ↓zt_s20 hm, ↓zt_s13 hm, ↓zt_s14 hm, ↓zt_s15 hm, ↓zt_s21 hm, ↓zt_l19, ↓zt_l17, forall_eq, ↓zqI_r, ↓zqL_r, ↓zqD_r, ↓zqF_r, ↓zqV_r, ↓zqR_r, ↓zqR_s, zboolb, zbool0, zbool1, true_and, and_true, ↓zl_159]
      rw [zl_shl e1 hV]
      refine ⟨fun _ => hrec _ ⟨rfl, fun t' ht' => ?_⟩, fun hn => absurd (nI_le (Nat.le_refl _) (by omega)) hn⟩
      by_cases e : t' = t
      · subst e
        exact hz
      · exact hno t' (by omega)
  · rintro rec s' ⟨rfl, hno⟩
    refine ⟨fun _ => h1 (fun t ht => hno t (by omega)) M' hpe, fun h9 => absurd (nI_lt (a := 200) (b := 201) (by omega) (by omega)) h9⟩
end ZTC
