/-! THE REFERENCE: what changes -/
theorem zt_up2 {α : Type} (f : Nat → α) (k : Nat) (a b : α) : va_up (va_up f k a) k b = va_up f k b := by
  funext j
  unfold va_up
  by_cases h : j = k
  · rw [if_pos h, if_pos h]
  · rw [if_neg h, if_neg h, if_neg h]
theorem zt_up0 {α : Type} (f : Nat → α) (k : Nat) : va_up f k (f k) = f := by
  funext j
  unfold va_up
  by_cases h : j = k
  · rw [if_pos h, h]
  · rw [if_neg h]
/-- a row copied, c places of it -/
def zt_cp (f g : Nat → Int32) (fr tr c : Nat) : Nat → Int32 := fun q => if 61 * tr ≤ q ∧ q < 61 * tr + c then f (61 * fr + (q - 61 * tr)) else g q
theorem zt_cp_s (f g : Nat → Int32) (fr tr c : Nat) : va_up (zt_cp f g fr tr c) (61 * tr + c) (f (61 * fr + c)) = zt_cp f g fr tr (c + 1) := by
  funext q
  unfold va_up zt_cp
  by_cases h : q = 61 * tr + c
  · subst h
    rw [if_pos rfl, if_pos (by omega), show 61 * tr + c - 61 * tr = c by omega]
  · rw [if_neg h]
    by_cases h2 : 61 * tr ≤ q ∧ q < 61 * tr + c
    · rw [if_pos h2, if_pos (by omega)]
    · rw [if_neg h2, if_neg (by omega)]
section ZT6
variable {G : zPg} {n : Nat} {σ : zS} {m : Nat} {N : Nat → Option Nat} {M : zt_M} {Q : zQ} {Y : zY} {V : zs_V}
theorem zx_row (r k : Nat) : (61 : Int32) * nI r + nI k = nI (61 * r + k) := by
  show nI 61 * nI r + nI k = _
  rw [zn_mul, nI_add]
theorem zt_238 (hm : G.1 ≤ m) {ja jb na nb fr tr : Nat} (hja : ja < 22) (hjb : jb < 22) (hb0 : jb ≠ 0) (hca : ∀ M, zt_c m N M ja = some (.inl (0, na, .inl (M.2.2.1 ja)))) (hcb : ∀ M, zt_c m N M jb = some (.inl (0, nb, .inl (M.2.2.1 jb)))) (h1 : 61 * fr + 61 ≤ na) (h2 : 61 * tr + 61 ≤ nb) (hna : na ≤ 1000) (hnb : nb ≤ 1000) (hne : ja ≠ jb ∨ fr ≠ tr) (h : Q none (zt_S σ m N (M.sA jb (zt_cp (M.2.2.1 ja) (M.2.2.1 jb) fr tr 61)))) : zCall G (n + 1) 238 [va_rf (some (m + ja)), .int (nI fr), va_rf (some (m + jb)), .int (nI tr)] Q Y (zt_S σ m N M) := by
  refine ze238 ⟨_, _, _, _, rfl, ?_⟩
  have h0 : M = M.sA jb (zt_cp (M.2.2.1 ja) (M.2.2.1 jb) fr tr 0) := by
    have : zt_cp (M.2.2.1 ja) (M.2.2.1 jb) fr tr 0 = M.2.2.1 jb := by
      funext q
      unfold zt_cp
      rw [if_neg (by omega)]
    rw [this]
    unfold zt_M.sA
    rw [zt_up0]
  refine zf2 0 61 (fun k s' => s' = zt_S σ m N (M.sA jb (zt_cp (M.2.2.1 ja) (M.2.2.1 jb) fr tr k))) (by omega) ?_ ?_ (by rw [← h0])
  · rintro rec k s' _ hk rfl hrec
    refine ⟨fun h9 => absurd h9 (nI_ge (b := 61) hk (by omega)), fun _ => ?_⟩
    rw [zx_row, zx_row]
    rw [zt_aI hja (hca _), nI_cl (by omega)]
    refine ⟨nI_i (by omega) (by omega), ?_⟩
    have ev : (M.sA jb (zt_cp (M.2.2.1 ja) (M.2.2.1 jb) fr tr k)).2.2.1 ja (61 * fr + k) = M.2.2.1 ja (61 * fr + k) := by
      show va_up M.2.2.1 jb _ ja (61 * fr + k) = _
      by_cases e : ja = jb
      · subst e
        rw [va_up_self]
        unfold zt_cp
        rw [if_neg (by omega)]
      · rw [va_up_ne _ _ e]
    rw [ev]
    refine (zt_sI (M' := M.sA jb (zt_cp (M.2.2.1 ja) (M.2.2.1 jb) fr tr (k + 1))) hjb (hcb _) ?_ ?_ hm).mpr ⟨nI_i (by omega) (by omega), ?_⟩
    · rw [hcb, nI_cl (by omega)]
      show some _ = some _
      have ea : (M.sA jb (zt_cp (M.2.2.1 ja) (M.2.2.1 jb) fr tr (k + 1))).2.2.1 jb = zt_cp (M.2.2.1 ja) (M.2.2.1 jb) fr tr (k + 1) := va_up_self _ _ _
      have eb : (M.sA jb (zt_cp (M.2.2.1 ja) (M.2.2.1 jb) fr tr k)).2.2.1 jb = zt_cp (M.2.2.1 ja) (M.2.2.1 jb) fr tr k := va_up_self _ _ _
      rw [ea, eb, zt_cp_s]
    · intro q hq hqne
      have := zt_cA (m := m) (N := N) (M := M) (j := jb) (f := zt_cp (M.2.2.1 ja) (M.2.2.1 jb) fr tr (k + 1)) hb0 q hq hqne
      have h9 := zt_cA (m := m) (N := N) (M := M) (j := jb) (f := zt_cp (M.2.2.1 ja) (M.2.2.1 jb) fr tr k) hb0 q hq hqne
      rw [this, h9]
    · intro v hv
      rw [hv]
      exact hrec _ rfl
  · rintro rec s' rfl
    exact ⟨fun _ => h, fun h9 => absurd (nI_le (Nat.le_refl 61) (by omega)) h9⟩
/-- the rows of the history -/
def zt_h (M : zt_M) (i k : Nat) : Int32 := M.2.2.1 4 (61 * i + k)
def zs_rec (u : Nat) (H : Nat → zs_V) (V : zs_V) : Nat × (Nat → zs_V) := if u = 10 then (10, fun i => if i < 9 then H (i + 1) else V) else (u + 1, fun i => if i < u then H i else V)
def zt_hs (M : zt_M) (u : Nat) (H : Nat → zs_V) : Prop := M.1 4 = nI u ∧ u ≤ 10 ∧ ∀ i, i < u → ∀ k, k < 61 → zt_h M i k = H i k
theorem zt_237 (hm : G.1 ≤ m) {u : Nat} {H : Nat → zs_V} (hM : M.2.2.1 1 = V) (hh : zt_hs M u H) (h : ∀ M', zt_hs M' (zs_rec u H V).1 (zs_rec u H V).2 → (∀ k, k ≠ 4 → M'.1 k = M.1 k) → M'.2.1 = M.2.1 → M'.2.2.2 = M.2.2.2 → (∀ j, j ≠ 4 → M'.2.2.1 j = M.2.2.1 j) → Q none (zt_S σ m N M')) : zCall G (n + 2) 237 [.ref m] Q Y (zt_S σ m N M) := by
  obtain ⟨h4, hu, hr⟩ := hh
  refine ze237 ⟨_, rfl, ?_⟩
  have last : ∀ (M1 : zt_M) (w : Nat) (H1 : Nat → zs_V), w < 10 → M1.1 4 = nI w → (∀ i, i < w → ∀ k, k < 61 → zt_h M1 i k = H1 i k) → (∀ k, k ≠ 4 → M1.1 k = M.1 k) → M1.2.1 = M.2.1 → M1.2.2.2 = M.2.2.2 → (∀ j, j ≠ 4 → M1.2.2.1 j = M.2.2.1 j) → (zs_rec u H V).1 = w + 1 → (∀ i, i ≤ w → (zs_rec u H V).2 i = if i < w then H1 i else V) → zgR (zt_S σ m N M1) (some m) 4 0 (fun v9 => zgR (zt_S σ m N M1) (some m) 4 3 (fun v15 => zgI (zt_S σ m N M1) (some m) 4 4 (fun v21 => zcl (zCall G (n + 1)) 238 [va_rf v9, .int (0 : Int32), va_rf v15, .int v21] Y (zt_S σ m N M1) (zqV (fun s28 => zgI s28 (some m) 4 4 (fun v30 => zput s28 G.1 (some m) 4 4 (.int (v30 + (1 : Int32))) (fun s36 => Q none s36))))))) := by
    intro M1 w H1 hw g4 gr g1 g2 g3 gA gw gH
    simp only [↓zt_rc, ↓zt_g0, ↓zt_g1, ↓zt_g2, ↓zt_g3, ↓zt_g4, ↓zt_g5, ↓zt_g6, ↓zt_g7, ↓zt_g8, ↓zt_g9, ↓zt_g10, ↓zt_g11, ↓zt_g12, ↓zt_g13, ↓zt_g14, ↓zt_g15, ↓zt_g16, ↓zt_g17, ↓zt_g18, ↓zt_g19, ↓zt_g20, ↓zt_g21, ↓zt_g22, ↓zt_g23, ↓zt_g24, ↓zt_g25, ↓zt_g26, ↓zt_g27, ↓zt_g28, ↓zt_g29, ↓zt_g30, ↓zt_g31, ↓zt_g32, ↓zt_g33, ↓zt_g34, ↓zt_g35, ↓zt_g36, ↓zt_g37, ↓zt_g38, ↓zt_g39, ↓zt_g40, ↓zt_p4 hm, ↓zt_p5 hm, ↓zt_p6 hm, ↓zt_p15 hm, ↓zt_p21 hm, ↓zt_p22 hm, ↓zt_p23 hm, ↓zt_p26 hm, ↓zt_p28 hm, ↓zt_p29 hm, ↓zt_p30 hm, ↓zt_p31 hm, ↓zt_p32 hm, ↓zt_p33 hm, ↓zt_p34 hm, ↓zt_p35 hm, ↓zt_p36 hm, ↓zt_p40 hm, ↓zt_p19 hm, ↓zt_p20 hm, ↓zt_a1, ↓zt_a2, ↓zt_a3, ↓zt_a4, ↓zt_a5, ↓zt_a6, ↓zt_a7, ↓zt_a8, ↓zt_a9, ↓zt_a10, ↓zt_a11, ↓zt_a12, ↓zt_a13, ↓zt_a14, ↓zt_a15, ↓zt_a16, ↓zt_a17, ↓zt_a18, ↓zt_a19, ↓zt_a20, ↓zt_a21, ↓zt_s1 hm, ↓zt_s2 hm, ↓zt_s3 hm, ↓zt_s4 hm, ↓zt_s5 hm, ↓zt_s6 hm, ↓zt_s7 hm, ↓zt_s8 hm, ↓zt_s9 hm, ↓zt_s10 hm, ↓zt_s11 hm, ↓zt_s12 hm, ↓zt_s16 hm, ↓zt_s17 hm, ↓zt_s18 hm, ↓zt_s20 hm, ↓zt_s13 hm, ↓zt_s14 hm, ↓zt_s15 hm, ↓zt_s21 hm, ↓zt_l19, ↓zt_l17, forall_eq, ↓zqI_r, ↓zqL_r, ↓zqD_r, ↓zqF_r, ↓zqV_r, ↓zqR_r, ↓zqR_s, zboolb, zbool0, zbool1, true_and, and_true, g4]
    refine zt_238 (ja := 1) (jb := 4) (na := 61) (nb := 610) (fr := 0) (tr := w) hm (by omega) (by omega) (by omega) (fun _ => rfl) (fun _ => rfl) (by omega) (by omega) (by omega) (by omega) (Or.inl (by omega)) ?_
    simp only [↓zt_rc, ↓zt_g0, ↓zt_g1, ↓zt_g2, ↓zt_g3, ↓zt_g4, ↓zt_g5, ↓zt_g6, ↓zt_g7, ↓zt_g8, ↓zt_g9, ↓zt_g10, ↓zt_g11, ↓zt_g12, ↓zt_g13, ↓zt_g14, ↓zt_g15, ↓zt_g16, ↓zt_g17, ↓zt_g18, ↓zt_g19, ↓zt_g20, ↓zt_g21, ↓zt_g22, ↓zt_g23, ↓zt_g24, ↓zt_g25, ↓zt_g26, ↓zt_g27, ↓zt_g28, ↓zt_g29, ↓zt_g30, ↓zt_g31, ↓zt_g32, ↓zt_g33, ↓zt_g34, ↓zt_g35, ↓zt_g36, ↓zt_g37, ↓zt_g38, ↓zt_g39, ↓zt_g40, ↓zt_p4 hm, ↓zt_p5 hm, ↓zt_p6 hm, ↓zt_p15 hm, ↓zt_p21 hm, ↓zt_p22 hm, ↓zt_p23 hm, ↓zt_p26 hm, ↓zt_p28 hm, ↓zt_p29 hm, ↓zt_p30 hm, ↓zt_p31 hm, ↓zt_p32 hm, ↓zt_p33 hm, ↓zt_p34 hm, ↓zt_p35 hm, ↓zt_p36 hm, ↓zt_p40 hm, ↓zt_p19 hm, ↓zt_p20 hm, ↓zt_a1, ↓zt_a2, ↓zt_a3, ↓zt_a4, ↓zt_a5, ↓zt_a6, ↓zt_a7, ↓zt_a8, ↓zt_a9, ↓zt_a10, ↓zt_a11, ↓zt_a12, ↓zt_a13, ↓zt_a14, ↓zt_a15, ↓zt_a16, ↓zt_a17, ↓zt_a18, ↓zt_a19, ↓zt_a20, ↓zt_a21, ↓zt_s1 hm, ↓zt_s2 hm, ↓zt_s3 hm, ↓zt_s4 hm, ↓zt_s5 hm, ↓zt_s6 hm, ↓zt_s7 hm, ↓zt_s8 hm, ↓zt_s9 hm, ↓zt_s10 hm, ↓zt_s11 hm, ↓zt_s12 hm, ↓zt_s16 hm, ↓zt_s17 hm, ↓zt_s18 hm, ↓zt_s20 hm, ↓zt_s13 hm, ↓zt_s14 hm, ↓zt_s15 hm, ↓zt_s21 hm, ↓zt_l19, ↓zt_l17, forall_eq, ↓zqI_r, ↓zqL_r, ↓zqD_r, ↓zqF_r, ↓zqV_r, ↓zqR_r, ↓zqR_s, zboolb, zbool0, zbool1, true_and, and_true, g4]
    have e1 : nI w + 1 = nI (w + 1) := nI_1 w
    rw [e1]
    refine h _ ⟨?_, by rw [gw]; omega, ?_⟩ ?_ ?_ ?_ ?_
    · rw [gw]
      rfl
    · intro i hi k hk
      rw [gw] at hi
      rw [gH i (by omega)]
      show zt_cp (M1.2.2.1 1) (M1.2.2.1 4) 0 w 61 (61 * i + k) = _
      unfold zt_cp
      by_cases e : i = w
      · subst e
        rw [if_pos (by omega), if_neg (by omega), gA 1 (by omega), hM]
        congr 1
        omega
      · rw [if_neg (by omega), if_pos (by omega)]
        exact gr i (by omega) k hk
    · intro k hk
      exact (va_up_ne _ _ hk).trans (g1 k hk)
    · exact g2
    · exact g3
    · intro j hj
      exact (va_up_ne _ _ hj).trans (gA j hj)
  simp only [↓zt_rc, ↓zt_g0, ↓zt_g1, ↓zt_g2, ↓zt_g3, ↓zt_g4, ↓zt_g5, ↓zt_g6, ↓zt_g7, ↓zt_g8, ↓zt_g9, ↓zt_g10, ↓zt_g11, ↓zt_g12, ↓zt_g13, ↓zt_g14, ↓zt_g15, ↓zt_g16, ↓zt_g17, ↓zt_g18, ↓zt_g19, ↓zt_g20, ↓zt_g21, ↓zt_g22, ↓zt_g23, ↓zt_g24, ↓zt_g25, ↓zt_g26, ↓zt_g27, ↓zt_g28, ↓zt_g29, ↓zt_g30, ↓zt_g31, ↓zt_g32, ↓zt_g33, ↓zt_g34, ↓zt_g35, ↓zt_g36, ↓zt_g37, ↓zt_g38, ↓zt_g39, ↓zt_g40, ↓zt_p4 hm, ↓zt_p5 hm, ↓zt_p6 hm, ↓zt_p15 hm, ↓zt_p21 hm, ↓zt_p22 hm, ↓zt_p23 hm, ↓zt_p26 hm, ↓zt_p28 hm, ↓zt_p29 hm, ↓zt_p30 hm, ↓zt_p31 hm, ↓zt_p32 hm, ↓zt_p33 hm, ↓zt_p34 hm, ↓zt_p35 hm, ↓zt_p36 hm, ↓zt_p40 hm, ↓zt_p19 hm, ↓zt_p20 hm, ↓zt_a1, ↓zt_a2, ↓zt_a3, ↓zt_a4, ↓zt_a5, ↓zt_a6, ↓zt_a7, ↓zt_a8, ↓zt_a9, ↓zt_a10, ↓zt_a11, ↓zt_a12, ↓zt_a13, ↓zt_a14, ↓zt_a15, ↓zt_a16, ↓zt_a17, ↓zt_a18, ↓zt_a19, ↓zt_a20, ↓zt_a21, ↓zt_s1 hm, ↓zt_s2 hm, ↓zt_s3 hm, ↓zt_s4 hm, ↓zt_s5 hm, ↓zt_s6 hm, ↓zt_s7 hm, ↓zt_s8 hm, ↓zt_s9 hm, ↓zt_s10 hm, ↓zt_s11 hm, ↓zt_s12 hm, ↓zt_s16 hm, ↓zt_s17 hm, ↓zt_s18 hm, ↓zt_s20 hm, ↓zt_s13 hm, ↓zt_s14 hm, ↓zt_s15 hm, ↓zt_s21 hm, ↓zt_l19, ↓zt_l17, forall_eq, ↓zqI_r, ↓zqL_r, ↓zqD_r, ↓zqF_r, ↓zqV_r, ↓zqR_r, ↓zqR_s, zboolb, zbool0, zbool1, true_and, and_true, zJ, h4]
  have e10 : nI u = (10 : Int32) ↔ u = 10 := by
    show nI u = nI 10 ↔ _
    rw [nI_eq (by omega) (by omega)]
  rw [e10]
  refine ⟨fun hne => ?_, fun he => ?_⟩
  · have := last M u H (by omega) h4 hr (fun _ _ => rfl) rfl rfl (fun _ _ => rfl) (by unfold zs_rec; rw [if_neg hne]) (fun i hi => by unfold zs_rec; rw [if_neg hne])
    simp only [↓zt_rc, ↓zt_g0, ↓zt_g1, ↓zt_g2, ↓zt_g3, ↓zt_g4, ↓zt_g5, ↓zt_g6, ↓zt_g7, ↓zt_g8, ↓zt_g9, ↓zt_g10, ↓zt_g11, ↓zt_g12, ↓zt_g13, ↓zt_g14, ↓zt_g15, ↓zt_g16, ↓zt_g17, ↓zt_g18, ↓zt_g19, ↓zt_g20, ↓zt_g21, ↓zt_g22, ↓zt_g23, ↓zt_g24, ↓zt_g25, ↓zt_g26, ↓zt_g27, ↓zt_g28, ↓zt_g29, ↓zt_g30, ↓zt_g31, ↓zt_g32, ↓zt_g33, ↓zt_g34, ↓zt_g35, ↓zt_g36, ↓zt_g37, ↓zt_g38, ↓zt_g39, ↓zt_g40, ↓zt_p4 hm, ↓zt_p5 hm, ↓zt_p6 hm, ↓zt_p15 hm, ↓zt_p21 hm, ↓zt_p22 hm, ↓zt_p23 hm, ↓zt_p26 hm, ↓zt_p28 hm, ↓zt_p29 hm, ↓zt_p30 hm, ↓zt_p31 hm, ↓zt_p32 hm, ↓zt_p33 hm, ↓zt_p34 hm, ↓zt_p35 hm, ↓zt_p36 hm, ↓zt_p40 hm, ↓zt_p19 hm, ↓zt_p20 hm, ↓zt_a1, ↓zt_a2, ↓zt_a3, ↓zt_a4, ↓zt_a5, ↓zt_a6, ↓zt_a7, ↓zt_a8, ↓zt_a9, ↓zt_a10, ↓zt_a11, ↓zt_a12, ↓zt_a13, ↓zt_a14, ↓zt_a15, ↓zt_a16, ↓zt_a17, ↓zt_a18, ↓zt_a19, ↓zt_a20, ↓zt_a21, ↓zt_s1 hm, ↓zt_s2 hm, ↓zt_s3 hm, ↓zt_s4 hm, ↓zt_s5 hm, ↓zt_s6 hm, ↓zt_s7 hm, ↓zt_s8 hm, ↓zt_s9 hm, ↓zt_s10 hm, ↓zt_s11 hm, ↓zt_s12 hm, ↓zt_s16 hm, ↓zt_s17 hm, ↓zt_s18 hm, ↓zt_s20 hm, ↓zt_s13 hm, ↓zt_s14 hm, ↓zt_s15 hm, ↓zt_s21 hm, ↓zt_l19, ↓zt_l17, forall_eq, ↓zqI_r, ↓zqL_r, ↓zqD_r, ↓zqF_r, ↓zqV_r, ↓zqR_r, ↓zqR_s, zboolb, zbool0, zbool1, true_and, and_true, h4] at this
    exact this
  · subst he
    refine zf2 1 10 (fun q s' => ∃ M1, s' = zt_S σ m N M1 ∧ M1.1 = M.1 ∧ M1.2.1 = M.2.1 ∧ M1.2.2.2 = M.2.2.2 ∧ (∀ j, j ≠ 4 → M1.2.2.1 j = M.2.2.1 j) ∧ (∀ i, i < q - 1 → ∀ k, k < 61 → zt_h M1 i k = H (i + 1) k) ∧ ∀ i, q ≤ i → i < 10 → ∀ k, k < 61 → zt_h M1 i k = H i k) (by omega) ?_ ?_ ⟨M, rfl, rfl, rfl, rfl, fun _ _ => rfl, fun i hi => absurd hi (by omega), fun i _ hi k hk => hr i hi k hk⟩
    · rintro rec q s' hq1 hq ⟨M1, rfl, g1, g2, g3, gA, ga, gb⟩ hrec
      refine ⟨fun h9 => absurd h9 (nI_ge (b := 10) hq (by omega)), fun _ => ?_⟩
      have e1 : nI q - 1 = nI (q - 1) := zn_sub (b := 1) hq1
      simp only [↓zt_rc, ↓zt_g0, ↓zt_g1, ↓zt_g2, ↓zt_g3, ↓zt_g4, ↓zt_g5, ↓zt_g6, ↓zt_g7, ↓zt_g8, ↓zt_g9, ↓zt_g10, ↓zt_g11, ↓zt_g12, ↓zt_g13, ↓zt_g14, ↓zt_g15, ↓zt_g16, ↓zt_g17, ↓zt_g18, ↓zt_g19, ↓zt_g20, ↓zt_g21, ↓zt_g22, ↓zt_g23, ↓zt_g24, ↓zt_g25, ↓zt_g26, ↓zt_g27, ↓zt_g28, ↓zt_g29, ↓zt_g30, ↓zt_g31, ↓zt_g32, ↓zt_g33, ↓zt_g34, ↓zt_g35, ↓zt_g36, ↓zt_g37, ↓zt_g38, ↓zt_g39, ↓zt_g40, ↓zt_p4 hm, ↓zt_p5 hm, ↓zt_p6 hm, ↓zt_p15 hm, ↓zt_p21 hm, ↓zt_p22 hm, ↓zt_p23 hm, ↓zt_p26 hm, ↓zt_p28 hm, ↓zt_p29 hm, ↓zt_p30 hm, ↓zt_p31 hm, ↓zt_p32 hm, ↓zt_p33 hm, ↓zt_p34 hm, ↓zt_p35 hm, ↓zt_p36 hm, ↓zt_p40 hm, ↓zt_p19 hm, ↓zt_p20 hm, ↓zt_a1, ↓zt_a2, ↓zt_a3, ↓zt_a4, ↓zt_a5, ↓zt_a6, ↓zt_a7, ↓zt_a8, ↓zt_a9, ↓zt_a10, ↓zt_a11, ↓zt_a12, ↓zt_a13, ↓zt_a14, ↓zt_a15, ↓zt_a16, ↓zt_a17, ↓zt_a18, ↓zt_a19, ↓zt_a20, ↓zt_a21, ↓zt_s1 hm, ↓zt_s2 hm, ↓zt_s3 hm, ↓zt_s4 hm, ↓zt_s5 hm, ↓zt_s6 hm, ↓zt_s7 hm, ↓zt_s8 hm, ↓zt_s9 hm, ↓zt_s10 hm, ↓zt_s11 hm, ↓zt_s12 hm, ↓zt_s16 hm, ↓zt_s17 hm, ↓zt_s18 hm, ↓zt_s20 hm, ↓zt_s13 hm, ↓zt_s14 hm, ↓zt_s15 hm, ↓zt_s21 hm, ↓zt_l19, ↓zt_l17, forall_eq, ↓zqI_r, ↓zqL_r, ↓zqD_r, ↓zqF_r, ↓zqV_r, ↓zqR_r, ↓zqR_s, zboolb, zbool0, zbool1, true_and, and_true, e1]
      refine zt_238 (ja := 4) (jb := 4) (na := 610) (nb := 610) (fr := q) (tr := q - 1) hm (by omega) (by omega) (by omega) (fun _ => rfl) (fun _ => rfl) (by omega) (by omega) (by omega) (by omega) (Or.inr (by omega)) ?_
      simp only [forall_eq, ↓zqI_r, ↓zqL_r, ↓zqD_r, ↓zqF_r, ↓zqV_r, ↓zqR_r, ↓zqR_s]
      refine hrec _ ⟨_, rfl, g1, g2, g3, fun j hj => (va_up_ne _ _ hj).trans (gA j hj), ?_, ?_⟩
      · intro i hi k hk
        show zt_cp (M1.2.2.1 4) (M1.2.2.1 4) q (q - 1) 61 (61 * i + k) = _
        unfold zt_cp
        by_cases e : i = q - 1
        · rw [if_pos (by omega), show 61 * q + (61 * i + k - 61 * (q - 1)) = 61 * q + k by omega, show i + 1 = q by omega]
          exact gb q (by omega) (by omega) k hk
        · rw [if_neg (by omega)]
          exact ga i (by omega) k hk
      · intro i h1 h2 k hk
        show zt_cp (M1.2.2.1 4) (M1.2.2.1 4) q (q - 1) 61 (61 * i + k) = _
        unfold zt_cp
        rw [if_neg (by omega)]
        exact gb i (by omega) h2 k hk
    · rintro rec s' ⟨M1, rfl, g1, g2, g3, gA, ga, gb⟩
      refine ⟨fun _ => ?_, fun h9 => absurd (nI_le (Nat.le_refl 10) (by omega)) h9⟩
      have e4 : M1.1 4 = nI 10 := by rw [g1]; exact h4
      have e9 : nI 10 - 1 = nI 9 := zn_sub (a := 10) (b := 1) (by omega)
      have := last (M1.sI 4 (nI 9)) 9 (fun i => H (i + 1)) (by omega) rfl (fun i hi k hk => ga i (by omega) k hk) (fun k hk => (va_up_ne _ _ hk).trans (by rw [g1])) g2 g3 gA (by unfold zs_rec; rw [if_pos rfl]) (fun i hi => by unfold zs_rec; rw [if_pos rfl])
      simp only [↓zt_rc, ↓zt_g0, ↓zt_g1, ↓zt_g2, ↓zt_g3, ↓zt_g4, ↓zt_g5, ↓zt_g6, ↓zt_g7, ↓zt_g8, ↓zt_g9, ↓zt_g10, ↓zt_g11, ↓zt_g12, ↓zt_g13, ↓zt_g14, ↓zt_g15, ↓zt_g16, ↓zt_g17, ↓zt_g18, ↓zt_g19, ↓zt_g20, ↓zt_g21, ↓zt_g22, ↓zt_g23, ↓zt_g24, ↓zt_g25, ↓zt_g26, ↓zt_g27, ↓zt_g28, ↓zt_g29, ↓zt_g30, ↓zt_g31, ↓zt_g32, ↓zt_g33, ↓zt_g34, ↓zt_g35, ↓zt_g36, ↓zt_g37, ↓zt_g38, ↓zt_g39, ↓zt_g40, ↓zt_p4 hm, ↓zt_p5 hm, ↓zt_p6 hm, ↓zt_p15 hm, ↓zt_p21 hm, ↓zt_p22 hm, ↓zt_p23 hm, ↓zt_p26 hm, ↓zt_p28 hm, ↓zt_p29 hm, ↓zt_p30 hm, ↓zt_p31 hm, ↓zt_p32 hm, ↓zt_p33 hm, ↓zt_p34 hm, ↓zt_p35 hm, ↓zt_p36 hm, ↓zt_p40 hm, ↓zt_p19 hm, ↓zt_p20 hm, ↓zt_a1, ↓zt_a2, ↓zt_a3, ↓zt_a4, ↓zt_a5, ↓zt_a6, ↓zt_a7, ↓zt_a8, ↓zt_a9, ↓zt_a10, ↓zt_a11, ↓zt_a12, ↓zt_a13, ↓zt_a14, ↓zt_a15, ↓zt_a16, ↓zt_a17, ↓zt_a18, ↓zt_a19, ↓zt_a20, ↓zt_a21, ↓zt_s1 hm, ↓zt_s2 hm, ↓zt_s3 hm, ↓zt_s4 hm, ↓zt_s5 hm, ↓zt_s6 hm, ↓zt_s7 hm, ↓zt_s8 hm, ↓zt_s9 hm, ↓zt_s10 hm, ↓zt_s11 hm, ↓zt_s12 hm, ↓zt_s16 hm, ↓zt_s17 hm, ↓zt_s18 hm, ↓zt_s20 hm, ↓zt_s13 hm, ↓zt_s14 hm, ↓zt_s15 hm, ↓zt_s21 hm, ↓zt_l19, ↓zt_l17, forall_eq, ↓zqI_r, ↓zqL_r, ↓zqD_r, ↓zqF_r, ↓zqV_r, ↓zqR_r, ↓zqR_s, zboolb, zbool0, zbool1, true_and, and_true, e4, e9]
      simp only [↓zt_rc, ↓zt_g0, ↓zt_g1, ↓zt_g2, ↓zt_g3, ↓zt_g4, ↓zt_g5, ↓zt_g6, ↓zt_g7, ↓zt_g8, ↓zt_g9, ↓zt_g10, ↓zt_g11, ↓zt_g12, ↓zt_g13, ↓zt_g14, ↓zt_g15, ↓zt_g16, ↓zt_g17, ↓zt_g18, ↓zt_g19, ↓zt_g20, ↓zt_g21, ↓zt_g22, ↓zt_g23, ↓zt_g24, ↓zt_g25, ↓zt_g26, ↓zt_g27, ↓zt_g28, ↓zt_g29, ↓zt_g30, ↓zt_g31, ↓zt_g32, ↓zt_g33, ↓zt_g34, ↓zt_g35, ↓zt_g36, ↓zt_g37, ↓zt_g38, ↓zt_g39, ↓zt_g40, ↓zt_p4 hm, ↓zt_p5 hm, ↓zt_p6 hm, ↓zt_p15 hm, ↓zt_p21 hm, ↓zt_p22 hm, ↓zt_p23 hm, ↓zt_p26 hm, ↓zt_p28 hm, ↓zt_p29 hm, ↓zt_p30 hm, ↓zt_p31 hm, ↓zt_p32 hm, ↓zt_p33 hm, ↓zt_p34 hm, ↓zt_p35 hm, ↓zt_p36 hm, ↓zt_p40 hm, ↓zt_p19 hm, ↓zt_p20 hm, ↓zt_a1, ↓zt_a2, ↓zt_a3, ↓zt_a4, ↓zt_a5, ↓zt_a6, ↓zt_a7, ↓zt_a8, ↓zt_a9, ↓zt_a10, ↓zt_a11, ↓zt_a12, ↓zt_a13, ↓zt_a14, ↓zt_a15, ↓zt_a16, ↓zt_a17, ↓zt_a18, ↓zt_a19, ↓zt_a20, ↓zt_a21, ↓zt_s1 hm, ↓zt_s2 hm, ↓zt_s3 hm, ↓zt_s4 hm, ↓zt_s5 hm, ↓zt_s6 hm, ↓zt_s7 hm, ↓zt_s8 hm, ↓zt_s9 hm, ↓zt_s10 hm, ↓zt_s11 hm, ↓zt_s12 hm, ↓zt_s16 hm, ↓zt_s17 hm, ↓zt_s18 hm, ↓zt_s20 hm, ↓zt_s13 hm, ↓zt_s14 hm, ↓zt_s15 hm, ↓zt_s21 hm, ↓zt_l19, ↓zt_l17, forall_eq, ↓zqI_r, ↓zqL_r, ↓zqD_r, ↓zqF_r, ↓zqV_r, ↓zqR_r, ↓zqR_s, zboolb, zbool0, zbool1, true_and, and_true] at this
      exact this
end ZT6
