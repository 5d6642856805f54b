/-! THE REFERENCE: the game's moves, undo -/
def zs_us (V : zs_V) : Nat := (V 6 ||| V 7).toNatClampNeg
def zs_tu (V : zs_V) : Nat := (V 8).toNatClampNeg
def zs_pa (V : zs_V) : Nat := (V 9).toNatClampNeg
theorem zs_ok.g6 {V : zs_V} (h : zs_ok V) : V 6 = nI (V 6).toNatClampNeg ∧ (V 6).toNatClampNeg < zs_all V := by
  have hA := h.all
  obtain ⟨s, h1, h2⟩ := h.2.2.2.2.2.2.1
  rw [h2, nI_cl (by omega)]
  exact ⟨rfl, h1⟩
theorem zs_ok.g7 {V : zs_V} (h : zs_ok V) : V 7 = nI (V 7).toNatClampNeg ∧ (V 7).toNatClampNeg < zs_all V := by
  have hA := h.all
  obtain ⟨s, h1, h2⟩ := h.2.2.2.2.2.2.2.1
  rw [h2, nI_cl (by omega)]
  exact ⟨rfl, h1⟩
theorem zs_ok.us {V : zs_V} (h : zs_ok V) : V 6 ||| V 7 = nI (zs_us V) ∧ zs_us V < zs_all V ∧ zs_us V = (V 6).toNatClampNeg ||| (V 7).toNatClampNeg := by
  have hA := h.all
  have h6 := h.g6
  have h7 := h.g7
  have hlt : (V 6).toNatClampNeg ||| (V 7).toNatClampNeg < zs_all V := Nat.or_lt_two_pow h6.2 h7.2
  have e : V 6 ||| V 7 = nI ((V 6).toNatClampNeg ||| (V 7).toNatClampNeg) := by
    rw [← fa_or, ← h6.1, ← h7.1]
  have e2 : zs_us V = (V 6).toNatClampNeg ||| (V 7).toNatClampNeg := by
    unfold zs_us
    rw [e, nI_cl (by omega)]
  rw [e2]
  exact ⟨e, hlt, rfl⟩
theorem zs_ok.tu {V : zs_V} (h : zs_ok V) : V 8 = nI (zs_tu V) ∧ zs_tu V ≤ 1 := by
  unfold zs_tu
  rcases h.2.2.2.2.2.2.2.2.1 with e | e <;> rw [e] <;> exact ⟨rfl, by decide⟩
theorem zs_ok.pa {V : zs_V} (h : zs_ok V) : V 9 = nI (zs_pa V) ∧ zs_pa V ≤ 2 := by
  unfold zs_pa
  rcases h.2.2.2.2.2.2.2.2.2 with e | e | e <;> rw [e] <;> exact ⟨rfl, by decide⟩
def zs_ov (V : zs_V) : Bool := decide (zs_pa V = 2) || !zs_can V (zs_us V)
theorem zs_ov_iff {V : zs_V} (h : zs_ok V) : zs_over V (zs_us V) ↔ zs_ov V = true := by
  have hp := h.pa
  have e : V 9 = 2 ↔ zs_pa V = 2 := by
    rw [hp.1]
    show nI (zs_pa V) = nI 2 ↔ _
    rw [nI_eq (by omega) (by omega)]
  unfold zs_over zs_ov
  rw [e]
  simp
/-- why an item cannot be taken -/
def zs_rn (V : zs_V) (k : Nat) : Nat := if zs_ov V = true then 1 else if (zs_us V).testBit k = true then 2 else if zs_rest V (zs_us V) < zs_p V k 0 then 3 else if zs_may V (zs_us V) (zs_tu V) k = true then 0 else 4
def zs_mkp (V : zs_V) : zs_V := va_up (va_up (va_up V 9 (V 9 + 1)) 8 (1 - V 8)) 10 (V 10 + 1)
def zs_mkt (V : zs_V) (k : Nat) : zs_V := va_up (va_up (va_up (va_up V (6 + zs_tu V) (V (6 + zs_tu V) ||| nI (2 ^ k))) 9 0) 8 (1 - V 8)) 10 (V 10 + 1)
theorem zs_mkp_sim (V : zs_V) : zs_sim V (zs_mkp V) := by
  intro k hk
  unfold zs_mkp
  rw [va_up_ne _ _ (by omega), va_up_ne _ _ (by omega), va_up_ne _ _ (by omega)]
theorem zs_mkt_sim {V : zs_V} (h : zs_tu V ≤ 1) (k : Nat) : zs_sim V (zs_mkt V k) := by
  intro q hq
  unfold zs_mkt
  rw [va_up_ne _ _ (by omega), va_up_ne _ _ (by omega), va_up_ne _ _ (by omega), va_up_ne _ _ (by omega)]
/-- a row with other numbers of the game -/
theorem zs_game_ok {V W : zs_V} (h : zs_ok V) (hs : ∀ k, k < 6 ∨ (11 ≤ k ∧ k < 61) → W k = V k) (h6 : ∃ s, s < zs_all V ∧ W 6 = nI s) (h7 : ∃ s, s < zs_all V ∧ W 7 = nI s) (h8 : W 8 = 0 ∨ W 8 = 1) (h9 : W 9 = 0 ∨ W 9 = 1 ∨ W 9 = 2) : zs_ok W := by
  have hsim : zs_sim V W := fun k hk => hs k (by omega)
  have hn := h.n0
  have hlc := h.lc
  obtain ⟨a1, a2, a3, a4, a5, a6, a7, a8, a9, a10⟩ := h
  refine ⟨?_, ?_, ?_, ?_, ?_, ?_, ?_, ?_, h8, h9⟩
  · rw [hs 0 (by omega)]; exact a1
  · rw [hs 1 (by omega)]; exact a2
  · rw [hs 2 (by omega)]; exact a3
  · rw [hs 3 (by omega)]; exact a4
  · intro k hk
    rw [hsim.n] at hk
    have := a5 k hk
    rw [hsim.p (by omega) (by omega)]
    refine ⟨this.1, this.2.1, fun f h1 h2 => ?_⟩
    rw [hsim.p (by omega) h2]
    exact this.2.2 f h1 h2
  · intro b
    have hb := zs_ci_lt b
    have hl := hlc b
    have e1 : W (zs_ci b) = V (zs_ci b) := hs _ (by omega)
    have e2 : zs_lc W b = zs_lc V b := by
      show (W (zs_ci b)).toNatClampNeg = _
      rw [e1]
      rfl
    rw [hsim.all]
    refine ⟨?_, fun i hi => ?_⟩
    · show ∃ n, n ≤ 5 ∧ W (zs_ci b) = nI n
      rw [e1]
      exact (a6 b).1
    · rw [e2] at hi
      show ∃ s, s < zs_all V ∧ W (zs_cb b + i) = nI s
      rw [hs _ (by omega)]
      exact (a6 b).2 i hi
  · rw [hsim.all]; exact h6
  · rw [hsim.all]; exact h7
theorem zs_t01 {V : zs_V} (h : zs_ok V) : (1 : Int32) - V 8 = 0 ∨ (1 : Int32) - V 8 = 1 := by
  rcases h.2.2.2.2.2.2.2.2.1 with e | e <;> rw [e] <;> decide
theorem zs_mkp_ok {V : zs_V} (h : zs_ok V) (hp : zs_pa V ≠ 2) : zs_ok (zs_mkp V) := by
  have h9 : V 9 = 0 ∨ V 9 = 1 := by
    rcases h.2.2.2.2.2.2.2.2.2 with e | e | e
    · exact Or.inl e
    · exact Or.inr e
    · exfalso
      apply hp
      unfold zs_pa
      rw [e]
      decide
  refine zs_game_ok h ?_ ?_ ?_ ?_ ?_
  · intro k hk
    unfold zs_mkp
    rw [va_up_ne _ _ (by omega), va_up_ne _ _ (by omega), va_up_ne _ _ (by omega)]
  · exact h.2.2.2.2.2.2.1
  · exact h.2.2.2.2.2.2.2.1
  · exact zs_t01 h
  · show V 9 + 1 = 0 ∨ V 9 + 1 = 1 ∨ V 9 + 1 = 2
    rcases h9 with e | e <;> rw [e] <;> decide
theorem zs_mkt_ok {V : zs_V} (h : zs_ok V) {k : Nat} (hk : k < zs_n V) : zs_ok (zs_mkt V k) := by
  have ht := h.tu
  have h6 := h.g6
  have h7 := h.g7
  have hor : ∀ s, s < zs_all V → ∃ s', s' < zs_all V ∧ nI s ||| nI (2 ^ k) = nI s' := fun s hs => ⟨s ||| 2 ^ k, zs_or_lt hs hk, fa_or _ _⟩
  refine zs_game_ok h ?_ ?_ ?_ ?_ ?_
  · intro q hq
    unfold zs_mkt
    rw [va_up_ne _ _ (by omega), va_up_ne _ _ (by omega), va_up_ne _ _ (by omega), va_up_ne _ _ (by omega)]
  · show ∃ s, s < zs_all V ∧ va_up (va_up (va_up (va_up V (6 + zs_tu V) (V (6 + zs_tu V) ||| nI (2 ^ k))) 9 0) 8 (1 - V 8)) 10 (V 10 + 1) 6 = nI s
    rw [va_up_ne _ _ (by omega), va_up_ne _ _ (by omega), va_up_ne _ _ (by omega)]
    by_cases e : zs_tu V = 0
    · rw [e, va_up_self, h6.1]
      exact hor _ h6.2
    · rw [va_up_ne _ _ (by omega)]
      exact ⟨_, h6.2, h6.1⟩
  · show ∃ s, s < zs_all V ∧ va_up (va_up (va_up (va_up V (6 + zs_tu V) (V (6 + zs_tu V) ||| nI (2 ^ k))) 9 0) 8 (1 - V 8)) 10 (V 10 + 1) 7 = nI s
    rw [va_up_ne _ _ (by omega), va_up_ne _ _ (by omega), va_up_ne _ _ (by omega)]
    by_cases e : zs_tu V = 1
    · rw [e, va_up_self, h7.1]
      exact hor _ h7.2
    · rw [va_up_ne _ _ (by omega)]
      exact ⟨_, h7.2, h7.1⟩
  · exact zs_t01 h
  · exact Or.inl rfl
section ZT9
variable {G : zPg} {n : Nat} {σ : zS} {m : Nat} {N : Nat → Option Nat} {M M0 : zt_M} {Q : zQ} {Y : zY} {V : zs_V} {u : Nat} {H : Nat → zs_V}
theorem zt_250p (hm : G.1 ≤ m) (hM : M.2.2.1 1 = V) (h : Q none (zt_S σ m N (M.sA 1 (zs_mkp V)))) : zCall G (n + 1) 250 [.ref m, .int (-1)] Q Y (zt_S σ m N M) := by
  refine ze250 ⟨_, _, rfl, ?_⟩
  refine ⟨fun h9 => absurd rfl h9, fun _ => ?_⟩
  simp only [↓zt_rc, ↓zt_g0, ↓zt_g1, ↓zt_g2, ↓zt_g3, ↓zt_g4, ↓zt_g5, ↓zt_g6, ↓zt_g7, ↓zt_g8, ↓zt_g9, ↓zt_g10, ↓zt_g11, ↓zt_g12, ↓zt_g13, ↓zt_g14, ↓zt_g15, ↓zt_g16, ↓zt_g17, ↓zt_g18, ↓zt_g19, ↓zt_g20, ↓zt_g21, ↓zt_g22, ↓zt_g23, ↓zt_g24, ↓zt_g25, ↓zt_g26, ↓zt_g27, ↓zt_g28, ↓zt_g29, ↓zt_g30, ↓zt_g31, ↓zt_g32, ↓zt_g33, ↓zt_g34, ↓zt_g35, ↓zt_g36, ↓zt_g37, ↓zt_g38, ↓zt_g39, ↓zt_g40, ↓zt_p4 hm, ↓zt_p5 hm, ↓zt_p6 hm, ↓zt_p15 hm, ↓zt_p21 hm, ↓zt_p22 hm, ↓zt_p23 hm, ↓zt_p26 hm, ↓zt_p28 hm, ↓zt_p29 hm, ↓zt_p30 hm, ↓zt_p31 hm, ↓zt_p32 hm, ↓zt_p33 hm, ↓zt_p34 hm, ↓zt_p35 hm, ↓zt_p36 hm, ↓zt_p40 hm, ↓zt_p19 hm, ↓zt_p20 hm, ↓zt_a1, ↓zt_a2, ↓zt_a3, ↓zt_a4, ↓zt_a5, ↓zt_a6, ↓zt_a7, ↓zt_a8, ↓zt_a9, ↓zt_a10, ↓zt_a11, ↓zt_a12, ↓zt_a13, ↓zt_a14, ↓zt_a15, ↓zt_a16, ↓zt_a17, ↓zt_a18, ↓zt_a19, ↓zt_a20, ↓zt_a21, ↓zt_s1 hm, ↓zt_s2 hm, ↓zt_s3 hm, ↓zt_s4 hm, ↓zt_s5 hm, ↓zt_s6 hm, ↓zt_s7 hm, ↓zt_s8 hm, ↓zt_s9 hm, ↓zt_s10 hm, ↓zt_s11 hm, ↓zt_s12 hm, ↓zt_s16 hm, ↓zt_s17 hm, ↓zt_s18 hm, ↓zt_s20 hm, ↓zt_s13 hm, ↓zt_s14 hm, ↓zt_s15 hm, ↓zt_s21 hm, ↓zt_l19, ↓zt_l17, forall_eq, ↓zqI_r, ↓zqL_r, ↓zqD_r, ↓zqF_r, ↓zqV_r, ↓zqR_r, ↓zqR_s, zboolb, zbool0, zbool1, true_and, and_true, zi_0, zj_0, zi_1, zj_1, zi_2, zj_2, zi_3, zj_3, zi_4, zj_4, zi_5, zj_5, zi_6, zj_6, zi_7, zj_7, zi_8, zj_8, zi_9, zj_9, zi_10, zj_10, true_and, and_true, zJ, hM, va_up_self]
  refine (congrArg (Q none) ?_).mp h
  rw [zt_sA2, zt_sA2]
  rfl
theorem zt_250t (hm : G.1 ≤ m) (hM : M.2.2.1 1 = V) (hV : zs_ok V) {k : Nat} (hk : k < zs_n V) (h : Q none (zt_S σ m N (M.sA 1 (zs_mkt V k)))) : zCall G (n + 1) 250 [.ref m, .int (nI k)] Q Y (zt_S σ m N M) := by
  have hn := hV.n0
  have ht := hV.tu
  have ek : ¬ nI k = (-1 : Int32) := by
    rw [fa_eq, nI_toInt (by omega)]
    show ¬ (k : Int) = -1
    omega
  have e6 : (6 : Int32) + nI (zs_tu V) = nI (6 + zs_tu V) := nI_add 6 _
  have hc : (nI (6 + zs_tu V)).toNatClampNeg = 6 + zs_tu V := nI_cl (by omega)
  have hi : vp_in (nI (6 + zs_tu V)) 61 := nI_i (by omega) (by omega)
  refine ze250 ⟨_, _, rfl, ?_⟩
  refine ⟨fun _ => ?_, fun h9 => absurd h9 ek⟩
  simp only [↓zt_rc, ↓zt_g0, ↓zt_g1, ↓zt_g2, ↓zt_g3, ↓zt_g4, ↓zt_g5, ↓zt_g6, ↓zt_g7, ↓zt_g8, ↓zt_g9, ↓zt_g10, ↓zt_g11, ↓zt_g12, ↓zt_g13, ↓zt_g14, ↓zt_g15, ↓zt_g16, ↓zt_g17, ↓zt_g18, ↓zt_g19, ↓zt_g20, ↓zt_g21, ↓zt_g22, ↓zt_g23, ↓zt_g24, ↓zt_g25, ↓zt_g26, ↓zt_g27, ↓zt_g28, ↓zt_g29, ↓zt_g30, ↓zt_g31, ↓zt_g32, ↓zt_g33, ↓zt_g34, ↓zt_g35, ↓zt_g36, ↓zt_g37, ↓zt_g38, ↓zt_g39, ↓zt_g40, ↓zt_p4 hm, ↓zt_p5 hm, ↓zt_p6 hm, ↓zt_p15 hm, ↓zt_p21 hm, ↓zt_p22 hm, ↓zt_p23 hm, ↓zt_p26 hm, ↓zt_p28 hm, ↓zt_p29 hm, ↓zt_p30 hm, ↓zt_p31 hm, ↓zt_p32 hm, ↓zt_p33 hm, ↓zt_p34 hm, ↓zt_p35 hm, ↓zt_p36 hm, ↓zt_p40 hm, ↓zt_p19 hm, ↓zt_p20 hm, ↓zt_a1, ↓zt_a2, ↓zt_a3, ↓zt_a4, ↓zt_a5, ↓zt_a6, ↓zt_a7, ↓zt_a8, ↓zt_a9, ↓zt_a10, ↓zt_a11, ↓zt_a12, ↓zt_a13, ↓zt_a14, ↓zt_a15, ↓zt_a16, ↓zt_a17, ↓zt_a18, ↓zt_a19, ↓zt_a20, ↓zt_a21, ↓zt_s1 hm, ↓zt_s2 hm, ↓zt_s3 hm, ↓zt_s4 hm, ↓zt_s5 hm, ↓zt_s6 hm, ↓zt_s7 hm, ↓zt_s8 hm, ↓zt_s9 hm, ↓zt_s10 hm, ↓zt_s11 hm, ↓zt_s12 hm, ↓zt_s16 hm, ↓zt_s17 hm, ↓zt_s18 hm, ↓zt_s20 hm, ↓zt_s13 hm, ↓zt_s14 hm, ↓zt_s15 hm, ↓zt_s21 hm, ↓zt_l19, ↓zt_l17, forall_eq, ↓zqI_r, ↓zqL_r, ↓zqD_r, ↓zqF_r, ↓zqV_r, ↓zqR_r, ↓zqR_s, zboolb, zbool0, zbool1, true_and, and_true, zi_0, zj_0, zi_1, zj_1, zi_2, zj_2, zi_3, zj_3, zi_4, zj_4, zi_5, zj_5, zi_6, zj_6, zi_7, zj_7, zi_8, zj_8, zi_9, zj_9, zi_10, zj_10, true_and, and_true, zJ, hM, ht.1, e6, hc, hi, va_up_self, zn_shl k (by omega)]
  refine (congrArg (Q none) ?_).mp h
  rw [zt_sA2, zt_sA2, zt_sA2]
  unfold zs_mkt
  congr 2
  have e8 : va_up (va_up V (6 + zs_tu V) (V (6 + zs_tu V) ||| nI (2 ^ k))) 9 0 8 = V 8 := by
    rw [va_up_ne _ _ (by omega), va_up_ne _ _ (by omega)]
  have e10 : va_up (va_up (va_up V (6 + zs_tu V) (V (6 + zs_tu V) ||| nI (2 ^ k))) 9 0) 8 (1 - V 8) 10 = V 10 := by
    rw [va_up_ne _ _ (by omega), va_up_ne _ _ (by omega), va_up_ne _ _ (by omega)]
  rw [e8, e10]
theorem zt_222 (hm : G.1 ≤ m) (hM : M.2.2.1 1 = V) (hV : zs_ok V) {k : Nat} (hk : k < zs_n V) (h : ∀ M', zt_kp 5 8 M M' → Q (some (.int (nI (zs_rn V k)))) (zt_S σ m N M')) : zCall G (n + 5) 222 [.ref m, .int (nI k)] Q Y (zt_S σ m N M) := by
  have hn := hV.n0
  have hA := hV.all
  have hu := hV.us
  have ht := hV.tu
  have hr := zs_rest_b hV (zs_us V)
  have hp := hV.pr (f := 0) hk (by omega)
  unfold zs_rn at h
  refine ze222 ⟨_, _, rfl, ?_⟩
  simp only [↓zt_rc, ↓zt_g0, ↓zt_g1, ↓zt_g2, ↓zt_g3, ↓zt_g4, ↓zt_g5, ↓zt_g6, ↓zt_g7, ↓zt_g8, ↓zt_g9, ↓zt_g10, ↓zt_g11, ↓zt_g12, ↓zt_g13, ↓zt_g14, ↓zt_g15, ↓zt_g16, ↓zt_g17, ↓zt_g18, ↓zt_g19, ↓zt_g20, ↓zt_g21, ↓zt_g22, ↓zt_g23, ↓zt_g24, ↓zt_g25, ↓zt_g26, ↓zt_g27, ↓zt_g28, ↓zt_g29, ↓zt_g30, ↓zt_g31, ↓zt_g32, ↓zt_g33, ↓zt_g34, ↓zt_g35, ↓zt_g36, ↓zt_g37, ↓zt_g38, ↓zt_g39, ↓zt_g40, ↓zt_p4 hm, ↓zt_p5 hm, ↓zt_p6 hm, ↓zt_p15 hm, ↓zt_p21 hm, ↓zt_p22 hm, ↓zt_p23 hm, ↓zt_p26 hm, ↓zt_p28 hm, ↓zt_p29 hm, ↓zt_p30 hm, ↓zt_p31 hm, ↓zt_p32 hm, ↓zt_p33 hm, ↓zt_p34 hm, ↓zt_p35 hm, ↓zt_p36 hm, ↓zt_p40 hm, ↓zt_p19 hm, ↓zt_p20 hm, ↓zt_a1, ↓zt_a2, ↓zt_a3, ↓zt_a4, ↓zt_a5, ↓zt_a6, ↓zt_a7, ↓zt_a8, ↓zt_a9, ↓zt_a10, ↓zt_a11, ↓zt_a12, ↓zt_a13, ↓zt_a14, ↓zt_a15, ↓zt_a16, ↓zt_a17, ↓zt_a18, ↓zt_a19, ↓zt_a20, ↓zt_a21, ↓zt_s1 hm, ↓zt_s2 hm, ↓zt_s3 hm, ↓zt_s4 hm, ↓zt_s5 hm, ↓zt_s6 hm, ↓zt_s7 hm, ↓zt_s8 hm, ↓zt_s9 hm, ↓zt_s10 hm, ↓zt_s11 hm, ↓zt_s12 hm, ↓zt_s16 hm, ↓zt_s17 hm, ↓zt_s18 hm, ↓zt_s20 hm, ↓zt_s13 hm, ↓zt_s14 hm, ↓zt_s15 hm, ↓zt_s21 hm, ↓zt_l19, ↓zt_l17, forall_eq, ↓zqI_r, ↓zqL_r, ↓zqD_r, ↓zqF_r, ↓zqV_r, ↓zqR_r, ↓zqR_s, zboolb, zbool0, zbool1, true_and, and_true]
  refine zt_219 hm hM hV hu.2.1 hu.1 (fun ho M' hk' hl => ?_) (fun ho M' hk' hl => ?_)
  · simp only [forall_eq, ↓zqI_r, ↓zqL_r, ↓zqD_r, ↓zqF_r, ↓zqV_r, ↓zqR_r, ↓zqR_s]
    rw [if_pos ((zs_ov_iff hV).mp ho)] at h
    exact ⟨fun h9 => absurd h9 (by decide), fun _ => h M' hk'⟩
  · have e1 : M'.2.2.1 1 = V := (hk'.2.2.2 1 (by omega)).trans hM
    rw [if_neg (fun h9 => ho ((zs_ov_iff hV).mpr h9))] at h
    simp only [↓zt_rc, ↓zt_g0, ↓zt_g1, ↓zt_g2, ↓zt_g3, ↓zt_g4, ↓zt_g5, ↓zt_g6, ↓zt_g7, ↓zt_g8, ↓zt_g9, ↓zt_g10, ↓zt_g11, ↓zt_g12, ↓zt_g13, ↓zt_g14, ↓zt_g15, ↓zt_g16, ↓zt_g17, ↓zt_g18, ↓zt_g19, ↓zt_g20, ↓zt_g21, ↓zt_g22, ↓zt_g23, ↓zt_g24, ↓zt_g25, ↓zt_g26, ↓zt_g27, ↓zt_g28, ↓zt_g29, ↓zt_g30, ↓zt_g31, ↓zt_g32, ↓zt_g33, ↓zt_g34, ↓zt_g35, ↓zt_g36, ↓zt_g37, ↓zt_g38, ↓zt_g39, ↓zt_g40, ↓zt_p4 hm, ↓zt_p5 hm, ↓zt_p6 hm, ↓zt_p15 hm, ↓zt_p21 hm, ↓zt_p22 hm, ↓zt_p23 hm, ↓zt_p26 hm, ↓zt_p28 hm, ↓zt_p29 hm, ↓zt_p30 hm, ↓zt_p31 hm, ↓zt_p32 hm, ↓zt_p33 hm, ↓zt_p34 hm, ↓zt_p35 hm, ↓zt_p36 hm, ↓zt_p40 hm, ↓zt_p19 hm, ↓zt_p20 hm, ↓zt_a1, ↓zt_a2, ↓zt_a3, ↓zt_a4, ↓zt_a5, ↓zt_a6, ↓zt_a7, ↓zt_a8, ↓zt_a9, ↓zt_a10, ↓zt_a11, ↓zt_a12, ↓zt_a13, ↓zt_a14, ↓zt_a15, ↓zt_a16, ↓zt_a17, ↓zt_a18, ↓zt_a19, ↓zt_a20, ↓zt_a21, ↓zt_s1 hm, ↓zt_s2 hm, ↓zt_s3 hm, ↓zt_s4 hm, ↓zt_s5 hm, ↓zt_s6 hm, ↓zt_s7 hm, ↓zt_s8 hm, ↓zt_s9 hm, ↓zt_s10 hm, ↓zt_s11 hm, ↓zt_s12 hm, ↓zt_s16 hm, ↓zt_s17 hm, ↓zt_s18 hm, ↓zt_s20 hm, ↓zt_s13 hm, ↓zt_s14 hm, ↓zt_s15 hm, ↓zt_s21 hm, ↓zt_l19, ↓zt_l17, forall_eq, ↓zqI_r, ↓zqL_r, ↓zqD_r, ↓zqF_r, ↓zqV_r, ↓zqR_r, ↓zqR_s, zboolb, zbool0, zbool1, true_and, and_true, zi_0, zj_0, zi_1, zj_1, zi_2, zj_2, zi_3, zj_3, zi_4, zj_4, zi_5, zj_5, zi_6, zj_6, zi_7, zj_7, zi_8, zj_8, zi_9, zj_9, zi_10, zj_10, true_and, and_true, ↓zl_216, e1, hu.1, ht.1, ↓zl_of0 e1 hV hk, ↓zl_rest e1 hV hl hu.2.1, zn_bit (show zs_us V < 2147483648 by omega) (show k < 32 by omega), zJ]
    refine ⟨fun _ => ?_, fun h9 => absurd trivial h9⟩
    refine ⟨fun hb => ?_, fun hb => ?_⟩
    · rw [if_neg hb] at h
      rw [iI_le (by omega) (by omega) (by omega) (by omega)]
      refine ⟨fun h2 => zt_223 e1 hV hl hu.2.1 ht.2 hk ?_, fun h2 => ?_⟩
      · rw [if_neg (by omega)] at h
        simp only [forall_eq, ↓zqI_r, ↓zqL_r, ↓zqD_r, ↓zqF_r, ↓zqV_r, ↓zqR_r, ↓zqR_s, zs_b0, Classical.not_not]
        refine ⟨fun h3 => ?_, fun h3 => ?_⟩
        · rw [if_neg h3] at h
          exact h M' hk'
        · rw [if_pos h3] at h
          exact h M' hk'
      · rw [if_pos (by omega)] at h
        exact h M' hk'
    · rw [if_pos hb] at h
      exact h M' hk'
/-- the number of an item -/
def zs_isi (V : zs_V) (x : Int32) : Prop := 0 ≤ x.toInt ∧ x.toInt < zs_n V
theorem zs_isi_iff {V : zs_V} (h : zs_ok V) {x : Int32} : (0 ≤ x ∧ x ≤ V 0 - 1) ↔ zs_isi V x := by
  have hn := h.n0
  have : nI (zs_n V) - 1 = iI ((zs_n V : Int) - 1) := by
    show iI (zs_n V) - iI 1 = _
    rw [iI_sub]
  rw [hn.1, this, fa_le, fa_le, iI_to (by omega) (by omega)]
  unfold zs_isi
  show 0 ≤ x.toInt ∧ _ ↔ _
  omega
theorem zs_isi_of {V : zs_V} {x : Int32} (h : zs_isi V x) : x = nI x.toNatClampNeg ∧ x.toNatClampNeg < zs_n V := by
  have e : x = nI x.toInt.toNat := by rw [← iI_nat, show ((x.toInt.toNat : Nat) : Int) = x.toInt by have := h.1; omega, iI_of]
  have h1 := h.1
  have h2 := h.2
  have hr := fb_rng x
  have e2 : x.toNatClampNeg = x.toInt.toNat := by
    conv => lhs; rw [e]
    rw [nI_cl (by omega)]
  rw [e2]
  exact ⟨e, by omega⟩
theorem zt_221 (hm : G.1 ≤ m) (hM : M.2.2.1 1 = V) (hV : zs_ok V) {x : Int32} (h0 : zs_isi V x → ∀ M', zt_pe 0 M M' → Q (some (.int (nI (zs_rn V x.toNatClampNeg)))) (zt_S σ m N M')) (h1 : ¬ zs_isi V x → ∀ M', zt_pe 1 M M' → Q (some (.int 0)) (zt_S σ m N M')) : zCall G (n + 6) 221 [.ref m, .int x] Q Y (zt_S σ m N M) := by
  refine ze221 ⟨_, _, rfl, ?_⟩
  simp only [↓zt_rc, ↓zt_g0, ↓zt_g1, ↓zt_g2, ↓zt_g3, ↓zt_g4, ↓zt_g5, ↓zt_g6, ↓zt_g7, ↓zt_g8, ↓zt_g9, ↓zt_g10, ↓zt_g11, ↓zt_g12, ↓zt_g13, ↓zt_g14, ↓zt_g15, ↓zt_g16, ↓zt_g17, ↓zt_g18, ↓zt_g19, ↓zt_g20, ↓zt_g21, ↓zt_g22, ↓zt_g23, ↓zt_g24, ↓zt_g25, ↓zt_g26, ↓zt_g27, ↓zt_g28, ↓zt_g29, ↓zt_g30, ↓zt_g31, ↓zt_g32, ↓zt_g33, ↓zt_g34, ↓zt_g35, ↓zt_g36, ↓zt_g37, ↓zt_g38, ↓zt_g39, ↓zt_g40, ↓zt_p4 hm, ↓zt_p5 hm, ↓zt_p6 hm, ↓zt_p15 hm, ↓zt_p21 hm, ↓zt_p22 hm, ↓zt_p23 hm, ↓zt_p26 hm, ↓zt_p28 hm, ↓zt_p29 hm, ↓zt_p30 hm, ↓zt_p31 hm, ↓zt_p32 hm, ↓zt_p33 hm, ↓zt_p34 hm, ↓zt_p35 hm, ↓zt_p36 hm, ↓zt_p40 hm, ↓zt_p19 hm, ↓zt_p20 hm, ↓zt_a1, ↓zt_a2, ↓zt_a3, ↓zt_a4, ↓zt_a5, ↓zt_a6, ↓zt_a7, ↓zt_a8, ↓zt_a9, ↓zt_a10, ↓zt_a11, ↓zt_a12, ↓zt_a13, ↓zt_a14, ↓zt_a15, ↓zt_a16, ↓zt_a17, ↓zt_a18, ↓zt_a19, ↓zt_a20, ↓zt_a21, ↓zt_s1 hm, ↓zt_s2 hm, ↓zt_s3 hm, ↓zt_s4 hm, ↓zt_s5 hm, ↓zt_s6 hm, ↓zt_s7 hm, ↓zt_s8 hm, ↓zt_s9 hm, ↓zt_s10 hm, ↓zt_s11 hm, ↓zt_s12 hm, ↓zt_s16 hm, ↓zt_s17 hm, ↓zt_s18 hm, ↓zt_s20 hm, ↓zt_s13 hm, ↓zt_s14 hm, ↓zt_s15 hm, ↓zt_s21 hm, ↓zt_l19, ↓zt_l17, forall_eq, ↓zqI_r, ↓zqL_r, ↓zqD_r, ↓zqF_r, ↓zqV_r, ↓zqR_r, ↓zqR_s, zboolb, zbool0, zbool1, true_and, and_true, ↓zl_165, ↓zl_163 hm, zJ, zs_b0, Classical.not_not, hM, zs_isi_iff hV]
  refine ⟨fun h9 => h1 h9 _ (zt_pe.re zt_pe.thr), fun h9 => ?_⟩
  obtain ⟨e, hk⟩ := zs_isi_of h9
  have h0 := h0 h9
  rw [e]
  generalize x.toNatClampNeg = k at *
  refine zt_222 hm (by exact hM) hV hk (fun M' hk' => ?_)
  simp only [forall_eq, ↓zqI_r, ↓zqL_r, ↓zqD_r, ↓zqF_r, ↓zqV_r, ↓zqR_r, ↓zqR_s]
  exact h0 M' ((zt_pe.thr).kp hk' (by omega) (by omega))
theorem zt_249 (hm : G.1 ≤ m) (hM : M.2.2.1 1 = V) (hV : zs_ok V) (hh : zt_hs M u H) {x : Int32} (h0 : ∀ k, k < zs_n V → x = nI k → zs_rn V k = 0 → ∀ M', zt_pq 0 M M' → M'.2.2.1 1 = zs_mkt V k → zt_hs M' (zs_rec u H V).1 (zs_rec u H V).2 → Q (some (.int (iI (zs_w V 1 (zs_mkt V k 6).toNatClampNeg - zs_w V 3 (zs_mkt V k 7).toNatClampNeg)))) (zt_S σ m N M')) (h2 : ∀ k, k < zs_n V → x = nI k → zs_rn V k ≠ 0 → ∀ M', zt_pe 0 M M' → Q (some (.int ((-1000000000) - nI (zs_rn V k)))) (zt_S σ m N M')) (h1 : ¬ zs_isi V x → ∀ M', zt_pe 1 M M' → Q (some (.int 0)) (zt_S σ m N M')) : zCall G (n + 6) 249 [.ref m, .int x] Q Y (zt_S σ m N M) := by
  refine ze249 ⟨_, _, rfl, ?_⟩
  simp only [↓zt_rc, ↓zt_g0, ↓zt_g1, ↓zt_g2, ↓zt_g3, ↓zt_g4, ↓zt_g5, ↓zt_g6, ↓zt_g7, ↓zt_g8, ↓zt_g9, ↓zt_g10, ↓zt_g11, ↓zt_g12, ↓zt_g13, ↓zt_g14, ↓zt_g15, ↓zt_g16, ↓zt_g17, ↓zt_g18, ↓zt_g19, ↓zt_g20, ↓zt_g21, ↓zt_g22, ↓zt_g23, ↓zt_g24, ↓zt_g25, ↓zt_g26, ↓zt_g27, ↓zt_g28, ↓zt_g29, ↓zt_g30, ↓zt_g31, ↓zt_g32, ↓zt_g33, ↓zt_g34, ↓zt_g35, ↓zt_g36, ↓zt_g37, ↓zt_g38, ↓zt_g39, ↓zt_g40, ↓zt_p4 hm, ↓zt_p5 hm, ↓zt_p6 hm, ↓zt_p15 hm, ↓zt_p21 hm, ↓zt_p22 hm, ↓zt_p23 hm, ↓zt_p26 hm, ↓zt_p28 hm, ↓zt_p29 hm, ↓zt_p30 hm, ↓zt_p31 hm, ↓zt_p32 hm, ↓zt_p33 hm, ↓zt_p34 hm, ↓zt_p35 hm, ↓zt_p36 hm, ↓zt_p40 hm, ↓zt_p19 hm, ↓zt_p20 hm, ↓zt_a1, ↓zt_a2, ↓zt_a3, ↓zt_a4, ↓zt_a5, ↓zt_a6, ↓zt_a7, ↓zt_a8, ↓zt_a9, ↓zt_a10, ↓zt_a11, ↓zt_a12, ↓zt_a13, ↓zt_a14, ↓zt_a15, ↓zt_a16, ↓zt_a17, ↓zt_a18, ↓zt_a19, ↓zt_a20, ↓zt_a21, ↓zt_s1 hm, ↓zt_s2 hm, ↓zt_s3 hm, ↓zt_s4 hm, ↓zt_s5 hm, ↓zt_s6 hm, ↓zt_s7 hm, ↓zt_s8 hm, ↓zt_s9 hm, ↓zt_s10 hm, ↓zt_s11 hm, ↓zt_s12 hm, ↓zt_s16 hm, ↓zt_s17 hm, ↓zt_s18 hm, ↓zt_s20 hm, ↓zt_s13 hm, ↓zt_s14 hm, ↓zt_s15 hm, ↓zt_s21 hm, ↓zt_l19, ↓zt_l17, forall_eq, ↓zqI_r, ↓zqL_r, ↓zqD_r, ↓zqF_r, ↓zqV_r, ↓zqR_r, ↓zqR_s, zboolb, zbool0, zbool1, true_and, and_true, ↓zl_165, ↓zl_163 hm, zJ, zs_b0, Classical.not_not, hM, zs_isi_iff hV]
  refine ⟨fun h9 => ?_, fun h9 => h1 h9 _ (zt_pe.re zt_pe.thr)⟩
  obtain ⟨e, hk⟩ := zs_isi_of h9
  rw [e]
  have h0 := h0 _ hk e
  have h2 := h2 _ hk e
  generalize x.toNatClampNeg = k at *
  refine zt_222 hm (by exact hM) hV hk (fun M' hk' => ?_)
  have hr4 : zs_rn V k ≤ 4 := by
    unfold zs_rn
    by_cases a1 : zs_ov V = true
    · rw [if_pos a1]; omega
    · rw [if_neg a1]
      by_cases a2 : (zs_us V).testBit k = true
      · rw [if_pos a2]; omega
      · rw [if_neg a2]
        by_cases a3 : zs_rest V (zs_us V) < zs_p V k 0
        · rw [if_pos a3]; omega
        · rw [if_neg a3]
          by_cases a4 : zs_may V (zs_us V) (zs_tu V) k = true
          · rw [if_pos a4]; omega
          · rw [if_neg a4]; omega
  have er : nI (zs_rn V k) = 0 ↔ zs_rn V k = 0 := by
    show _ = nI 0 ↔ _
    rw [nI_eq (by omega) (by omega)]
  have hpe : zt_pe 0 M M' := (zt_pe.thr).kp hk' (by omega) (by omega)
  have e1 : M'.2.2.1 1 = V := hpe.V hM
  simp only [↓zt_rc, ↓zt_g0, ↓zt_g1, ↓zt_g2, ↓zt_g3, ↓zt_g4, ↓zt_g5, ↓zt_g6, ↓zt_g7, ↓zt_g8, ↓zt_g9, ↓zt_g10, ↓zt_g11, ↓zt_g12, ↓zt_g13, ↓zt_g14, ↓zt_g15, ↓zt_g16, ↓zt_g17, ↓zt_g18, ↓zt_g19, ↓zt_g20, ↓zt_g21, ↓zt_g22, ↓zt_g23, ↓zt_g24, ↓zt_g25, ↓zt_g26, ↓zt_g27, ↓zt_g28, ↓zt_g29, ↓zt_g30, ↓zt_g31, ↓zt_g32, ↓zt_g33, ↓zt_g34, ↓zt_g35, ↓zt_g36, ↓zt_g37, ↓zt_g38, ↓zt_g39, ↓zt_g40, ↓zt_p4 hm, ↓zt_p5 hm, ↓zt_p6 hm, ↓zt_p15 hm, ↓zt_p21 hm, ↓zt_p22 hm, ↓zt_p23 hm, ↓zt_p26 hm, ↓zt_p28 hm, ↓zt_p29 hm, ↓zt_p30 hm, ↓zt_p31 hm, ↓zt_p32 hm, ↓zt_p33 hm, ↓zt_p34 hm, ↓zt_p35 hm, ↓zt_p36 hm, ↓zt_p40 hm, ↓zt_p19 hm, ↓zt_p20 hm, ↓zt_a1, ↓zt_a2, ↓zt_a3, ↓zt_a4, ↓zt_a5, ↓zt_a6, ↓zt_a7, ↓zt_a8, ↓zt_a9, ↓zt_a10, ↓zt_a11, ↓zt_a12, ↓zt_a13, ↓zt_a14, ↓zt_a15, ↓zt_a16, ↓zt_a17, ↓zt_a18, ↓zt_a19, ↓zt_a20, ↓zt_a21, ↓zt_s1 hm, ↓zt_s2 hm, ↓zt_s3 hm, ↓zt_s4 hm, ↓zt_s5 hm, ↓zt_s6 hm, ↓zt_s7 hm, ↓zt_s8 hm, ↓zt_s9 hm, ↓zt_s10 hm, ↓zt_s11 hm, ↓zt_s12 hm, ↓zt_s16 hm, ↓zt_s17 hm, ↓zt_s18 hm, ↓zt_s20 hm, ↓zt_s13 hm, ↓zt_s14 hm, ↓zt_s15 hm, ↓zt_s21 hm, ↓zt_l19, ↓zt_l17, forall_eq, ↓zqI_r, ↓zqL_r, ↓zqD_r, ↓zqF_r, ↓zqV_r, ↓zqR_r, ↓zqR_s, zboolb, zbool0, zbool1, true_and, and_true, er]
  refine ⟨fun h3 => ?_, fun h3 => h2 h3 M' hpe⟩
  refine zt_237 hm e1 ((hh.sI (j := 5) (x := 0) (by omega)).kp hk' (by omega)) (fun M1 hh1 g1 g2 g3 gA => ?_)
  have e2 : M1.2.2.1 1 = V := (gA 1 (by omega)).trans e1
  simp only [↓zt_rc, ↓zt_g0, ↓zt_g1, ↓zt_g2, ↓zt_g3, ↓zt_g4, ↓zt_g5, ↓zt_g6, ↓zt_g7, ↓zt_g8, ↓zt_g9, ↓zt_g10, ↓zt_g11, ↓zt_g12, ↓zt_g13, ↓zt_g14, ↓zt_g15, ↓zt_g16, ↓zt_g17, ↓zt_g18, ↓zt_g19, ↓zt_g20, ↓zt_g21, ↓zt_g22, ↓zt_g23, ↓zt_g24, ↓zt_g25, ↓zt_g26, ↓zt_g27, ↓zt_g28, ↓zt_g29, ↓zt_g30, ↓zt_g31, ↓zt_g32, ↓zt_g33, ↓zt_g34, ↓zt_g35, ↓zt_g36, ↓zt_g37, ↓zt_g38, ↓zt_g39, ↓zt_g40, ↓zt_p4 hm, ↓zt_p5 hm, ↓zt_p6 hm, ↓zt_p15 hm, ↓zt_p21 hm, ↓zt_p22 hm, ↓zt_p23 hm, ↓zt_p26 hm, ↓zt_p28 hm, ↓zt_p29 hm, ↓zt_p30 hm, ↓zt_p31 hm, ↓zt_p32 hm, ↓zt_p33 hm, ↓zt_p34 hm, ↓zt_p35 hm, ↓zt_p36 hm, ↓zt_p40 hm, ↓zt_p19 hm, ↓zt_p20 hm, ↓zt_a1, ↓zt_a2, ↓zt_a3, ↓zt_a4, ↓zt_a5, ↓zt_a6, ↓zt_a7, ↓zt_a8, ↓zt_a9, ↓zt_a10, ↓zt_a11, ↓zt_a12, ↓zt_a13, ↓zt_a14, ↓zt_a15, ↓zt_a16, ↓zt_a17, ↓zt_a18, ↓zt_a19, ↓zt_a20, ↓zt_a21, ↓zt_s1 hm, ↓zt_s2 hm, ↓zt_s3 hm, ↓zt_s4 hm, ↓zt_s5 hm, ↓zt_s6 hm, ↓zt_s7 hm, ↓zt_s8 hm, ↓zt_s9 hm, ↓zt_s10 hm, ↓zt_s11 hm, ↓zt_s12 hm, ↓zt_s16 hm, ↓zt_s17 hm, ↓zt_s18 hm, ↓zt_s20 hm, ↓zt_s13 hm, ↓zt_s14 hm, ↓zt_s15 hm, ↓zt_s21 hm, ↓zt_l19, ↓zt_l17, forall_eq, ↓zqI_r, ↓zqL_r, ↓zqD_r, ↓zqF_r, ↓zqV_r, ↓zqR_r, ↓zqR_s, zboolb, zbool0, zbool1, true_and, and_true]
  refine zt_250t hm e2 hV hk ?_
  simp only [↓zt_rc, ↓zt_g0, ↓zt_g1, ↓zt_g2, ↓zt_g3, ↓zt_g4, ↓zt_g5, ↓zt_g6, ↓zt_g7, ↓zt_g8, ↓zt_g9, ↓zt_g10, ↓zt_g11, ↓zt_g12, ↓zt_g13, ↓zt_g14, ↓zt_g15, ↓zt_g16, ↓zt_g17, ↓zt_g18, ↓zt_g19, ↓zt_g20, ↓zt_g21, ↓zt_g22, ↓zt_g23, ↓zt_g24, ↓zt_g25, ↓zt_g26, ↓zt_g27, ↓zt_g28, ↓zt_g29, ↓zt_g30, ↓zt_g31, ↓zt_g32, ↓zt_g33, ↓zt_g34, ↓zt_g35, ↓zt_g36, ↓zt_g37, ↓zt_g38, ↓zt_g39, ↓zt_g40, ↓zt_p4 hm, ↓zt_p5 hm, ↓zt_p6 hm, ↓zt_p15 hm, ↓zt_p21 hm, ↓zt_p22 hm, ↓zt_p23 hm, ↓zt_p26 hm, ↓zt_p28 hm, ↓zt_p29 hm, ↓zt_p30 hm, ↓zt_p31 hm, ↓zt_p32 hm, ↓zt_p33 hm, ↓zt_p34 hm, ↓zt_p35 hm, ↓zt_p36 hm, ↓zt_p40 hm, ↓zt_p19 hm, ↓zt_p20 hm, ↓zt_a1, ↓zt_a2, ↓zt_a3, ↓zt_a4, ↓zt_a5, ↓zt_a6, ↓zt_a7, ↓zt_a8, ↓zt_a9, ↓zt_a10, ↓zt_a11, ↓zt_a12, ↓zt_a13, ↓zt_a14, ↓zt_a15, ↓zt_a16, ↓zt_a17, ↓zt_a18, ↓zt_a19, ↓zt_a20, ↓zt_a21, ↓zt_s1 hm, ↓zt_s2 hm, ↓zt_s3 hm, ↓zt_s4 hm, ↓zt_s5 hm, ↓zt_s6 hm, ↓zt_s7 hm, ↓zt_s8 hm, ↓zt_s9 hm, ↓zt_s10 hm, ↓zt_s11 hm, ↓zt_s12 hm, ↓zt_s16 hm, ↓zt_s17 hm, ↓zt_s18 hm, ↓zt_s20 hm, ↓zt_s13 hm, ↓zt_s14 hm, ↓zt_s15 hm, ↓zt_s21 hm, ↓zt_l19, ↓zt_l17, forall_eq, ↓zqI_r, ↓zqL_r, ↓zqD_r, ↓zqF_r, ↓zqV_r, ↓zqR_r, ↓zqR_s, zboolb, zbool0, zbool1, true_and, and_true]
  have hok := zs_mkt_ok hV hk
  have hsim := zs_mkt_sim hV.tu.2 k
  refine zt_217 zt_sAj hok hok.g6.2 hok.g7.2 hok.g6.1 hok.g7.1 ?_
  simp only [forall_eq, ↓zqI_r, ↓zqL_r, ↓zqD_r, ↓zqF_r, ↓zqV_r, ↓zqR_r, ↓zqR_s]
  rw [hsim.w hV.n0.2 (by omega), hsim.w hV.n0.2 (by omega)]
  exact h0 h3 _ (((zt_pq.ofe hpe).rec g1 gA).sA1) zt_sAj (hh1.sA (by omega))
theorem zt_218 (hm : G.1 ≤ m) (hM : M.2.2.1 1 = V) (hV : zs_ok V) (h : ∀ M', zt_kp 5 8 M M' → Q (some (.int (if zs_ov V = true then -1 else V 8))) (zt_S σ m N M')) : zCall G (n + 5) 218 [.ref m] Q Y (zt_S σ m N M) := by
  have hu := hV.us
  refine ze218 ⟨_, rfl, ?_⟩
  simp only [↓zt_rc, ↓zt_g0, ↓zt_g1, ↓zt_g2, ↓zt_g3, ↓zt_g4, ↓zt_g5, ↓zt_g6, ↓zt_g7, ↓zt_g8, ↓zt_g9, ↓zt_g10, ↓zt_g11, ↓zt_g12, ↓zt_g13, ↓zt_g14, ↓zt_g15, ↓zt_g16, ↓zt_g17, ↓zt_g18, ↓zt_g19, ↓zt_g20, ↓zt_g21, ↓zt_g22, ↓zt_g23, ↓zt_g24, ↓zt_g25, ↓zt_g26, ↓zt_g27, ↓zt_g28, ↓zt_g29, ↓zt_g30, ↓zt_g31, ↓zt_g32, ↓zt_g33, ↓zt_g34, ↓zt_g35, ↓zt_g36, ↓zt_g37, ↓zt_g38, ↓zt_g39, ↓zt_g40, ↓zt_p4 hm, ↓zt_p5 hm, ↓zt_p6 hm, ↓zt_p15 hm, ↓zt_p21 hm, ↓zt_p22 hm, ↓zt_p23 hm, ↓zt_p26 hm, ↓zt_p28 hm, ↓zt_p29 hm, ↓zt_p30 hm, ↓zt_p31 hm, ↓zt_p32 hm, ↓zt_p33 hm, ↓zt_p34 hm, ↓zt_p35 hm, ↓zt_p36 hm, ↓zt_p40 hm, ↓zt_p19 hm, ↓zt_p20 hm, ↓zt_a1, ↓zt_a2, ↓zt_a3, ↓zt_a4, ↓zt_a5, ↓zt_a6, ↓zt_a7, ↓zt_a8, ↓zt_a9, ↓zt_a10, ↓zt_a11, ↓zt_a12, ↓zt_a13, ↓zt_a14, ↓zt_a15, ↓zt_a16, ↓zt_a17, ↓zt_a18, ↓zt_a19, ↓zt_a20, ↓zt_a21, ↓zt_s1 hm, ↓zt_s2 hm, ↓zt_s3 hm, ↓zt_s4 hm, ↓zt_s5 hm, ↓zt_s6 hm, ↓zt_s7 hm, ↓zt_s8 hm, ↓zt_s9 hm, ↓zt_s10 hm, ↓zt_s11 hm, ↓zt_s12 hm, ↓zt_s16 hm, ↓zt_s17 hm, ↓zt_s18 hm, ↓zt_s20 hm, ↓zt_s13 hm, ↓zt_s14 hm, ↓zt_s15 hm, ↓zt_s21 hm, ↓zt_l19, ↓zt_l17, forall_eq, ↓zqI_r, ↓zqL_r, ↓zqD_r, ↓zqF_r, ↓zqV_r, ↓zqR_r, ↓zqR_s, zboolb, zbool0, zbool1, true_and, and_true]
  refine zt_219 hm hM hV hu.2.1 hu.1 (fun ho M' hk' hl => ?_) (fun ho M' hk' hl => ?_)
  · rw [if_pos ((zs_ov_iff hV).mp ho)] at h
    simp only [↓zt_rc, ↓zt_g0, ↓zt_g1, ↓zt_g2, ↓zt_g3, ↓zt_g4, ↓zt_g5, ↓zt_g6, ↓zt_g7, ↓zt_g8, ↓zt_g9, ↓zt_g10, ↓zt_g11, ↓zt_g12, ↓zt_g13, ↓zt_g14, ↓zt_g15, ↓zt_g16, ↓zt_g17, ↓zt_g18, ↓zt_g19, ↓zt_g20, ↓zt_g21, ↓zt_g22, ↓zt_g23, ↓zt_g24, ↓zt_g25, ↓zt_g26, ↓zt_g27, ↓zt_g28, ↓zt_g29, ↓zt_g30, ↓zt_g31, ↓zt_g32, ↓zt_g33, ↓zt_g34, ↓zt_g35, ↓zt_g36, ↓zt_g37, ↓zt_g38, ↓zt_g39, ↓zt_g40, ↓zt_p4 hm, ↓zt_p5 hm, ↓zt_p6 hm, ↓zt_p15 hm, ↓zt_p21 hm, ↓zt_p22 hm, ↓zt_p23 hm, ↓zt_p26 hm, ↓zt_p28 hm, ↓zt_p29 hm, ↓zt_p30 hm, ↓zt_p31 hm, ↓zt_p32 hm, ↓zt_p33 hm, ↓zt_p34 hm, ↓zt_p35 hm, ↓zt_p36 hm, ↓zt_p40 hm, ↓zt_p19 hm, ↓zt_p20 hm, ↓zt_a1, ↓zt_a2, ↓zt_a3, ↓zt_a4, ↓zt_a5, ↓zt_a6, ↓zt_a7, ↓zt_a8, ↓zt_a9, ↓zt_a10, ↓zt_a11, ↓zt_a12, ↓zt_a13, ↓zt_a14, ↓zt_a15, ↓zt_a16, ↓zt_a17, ↓zt_a18, ↓zt_a19, ↓zt_a20, ↓zt_a21, ↓zt_s1 hm, ↓zt_s2 hm, ↓zt_s3 hm, ↓zt_s4 hm, ↓zt_s5 hm, ↓zt_s6 hm, ↓zt_s7 hm, ↓zt_s8 hm, ↓zt_s9 hm, ↓zt_s10 hm, ↓zt_s11 hm, ↓zt_s12 hm, ↓zt_s16 hm, ↓zt_s17 hm, ↓zt_s18 hm, ↓zt_s20 hm, ↓zt_s13 hm, ↓zt_s14 hm, ↓zt_s15 hm, ↓zt_s21 hm, ↓zt_l19, ↓zt_l17, forall_eq, ↓zqI_r, ↓zqL_r, ↓zqD_r, ↓zqF_r, ↓zqV_r, ↓zqR_r, ↓zqR_s, zboolb, zbool0, zbool1, true_and, and_true, zJ]
    exact ⟨fun h9 => absurd h9 (by decide), fun _ => h M' hk'⟩
  · have e1 : M'.2.2.1 1 = V := (hk'.2.2.2 1 (by omega)).trans hM
    rw [if_neg (fun h9 => ho ((zs_ov_iff hV).mpr h9))] at h
    simp only [↓zt_rc, ↓zt_g0, ↓zt_g1, ↓zt_g2, ↓zt_g3, ↓zt_g4, ↓zt_g5, ↓zt_g6, ↓zt_g7, ↓zt_g8, ↓zt_g9, ↓zt_g10, ↓zt_g11, ↓zt_g12, ↓zt_g13, ↓zt_g14, ↓zt_g15, ↓zt_g16, ↓zt_g17, ↓zt_g18, ↓zt_g19, ↓zt_g20, ↓zt_g21, ↓zt_g22, ↓zt_g23, ↓zt_g24, ↓zt_g25, ↓zt_g26, ↓zt_g27, ↓zt_g28, ↓zt_g29, ↓zt_g30, ↓zt_g31, ↓zt_g32, ↓zt_g33, ↓zt_g34, ↓zt_g35, ↓zt_g36, ↓zt_g37, ↓zt_g38, ↓zt_g39, ↓zt_g40, ↓zt_p4 hm, ↓zt_p5 hm, ↓zt_p6 hm, ↓zt_p15 hm, ↓zt_p21 hm, ↓zt_p22 hm, ↓zt_p23 hm, ↓zt_p26 hm, ↓zt_p28 hm, ↓zt_p29 hm, ↓zt_p30 hm, ↓zt_p31 hm, ↓zt_p32 hm, ↓zt_p33 hm, ↓zt_p34 hm, ↓zt_p35 hm, ↓zt_p36 hm, ↓zt_p40 hm, ↓zt_p19 hm, ↓zt_p20 hm, ↓zt_a1, ↓zt_a2, ↓zt_a3, ↓zt_a4, ↓zt_a5, ↓zt_a6, ↓zt_a7, ↓zt_a8, ↓zt_a9, ↓zt_a10, ↓zt_a11, ↓zt_a12, ↓zt_a13, ↓zt_a14, ↓zt_a15, ↓zt_a16, ↓zt_a17, ↓zt_a18, ↓zt_a19, ↓zt_a20, ↓zt_a21, ↓zt_s1 hm, ↓zt_s2 hm, ↓zt_s3 hm, ↓zt_s4 hm, ↓zt_s5 hm, ↓zt_s6 hm, ↓zt_s7 hm, ↓zt_s8 hm, ↓zt_s9 hm, ↓zt_s10 hm, ↓zt_s11 hm, ↓zt_s12 hm, ↓zt_s16 hm, ↓zt_s17 hm, ↓zt_s18 hm, ↓zt_s20 hm, ↓zt_s13 hm, ↓zt_s14 hm, ↓zt_s15 hm, ↓zt_s21 hm, ↓zt_l19, ↓zt_l17, forall_eq, ↓zqI_r, ↓zqL_r, ↓zqD_r, ↓zqF_r, ↓zqV_r, ↓zqR_r, ↓zqR_s, zboolb, zbool0, zbool1, true_and, and_true, zi_0, zj_0, zi_1, zj_1, zi_2, zj_2, zi_3, zj_3, zi_4, zj_4, zi_5, zj_5, zi_6, zj_6, zi_7, zj_7, zi_8, zj_8, zi_9, zj_9, zi_10, zj_10, true_and, and_true, zJ, e1]
    exact ⟨fun _ => h M' hk', fun h9 => absurd trivial h9⟩
theorem zt_251 (hm : G.1 ≤ m) (hM : M.2.2.1 1 = V) (hV : zs_ok V) (hh : zt_hs M u H) (h0 : zs_ov V = false → ∀ M', zt_pq 0 M M' → M'.2.2.1 1 = zs_mkp V → zt_hs M' (zs_rec u H V).1 (zs_rec u H V).2 → Q (some (.int (if zs_ov (zs_mkp V) = true then -1 else zs_mkp V 8))) (zt_S σ m N M')) (h1 : zs_ov V = true → ∀ M', zt_pe 0 M M' → Q (some (.int (-2))) (zt_S σ m N M')) : zCall G (n + 6) 251 [.ref m] Q Y (zt_S σ m N M) := by
  have hu := hV.us
  refine ze251 ⟨_, rfl, ?_⟩
  simp only [↓zt_rc, ↓zt_g0, ↓zt_g1, ↓zt_g2, ↓zt_g3, ↓zt_g4, ↓zt_g5, ↓zt_g6, ↓zt_g7, ↓zt_g8, ↓zt_g9, ↓zt_g10, ↓zt_g11, ↓zt_g12, ↓zt_g13, ↓zt_g14, ↓zt_g15, ↓zt_g16, ↓zt_g17, ↓zt_g18, ↓zt_g19, ↓zt_g20, ↓zt_g21, ↓zt_g22, ↓zt_g23, ↓zt_g24, ↓zt_g25, ↓zt_g26, ↓zt_g27, ↓zt_g28, ↓zt_g29, ↓zt_g30, ↓zt_g31, ↓zt_g32, ↓zt_g33, ↓zt_g34, ↓zt_g35, ↓zt_g36, ↓zt_g37, ↓zt_g38, ↓zt_g39, ↓zt_g40, ↓zt_p4 hm, ↓zt_p5 hm, ↓zt_p6 hm, ↓zt_p15 hm, ↓zt_p21 hm, ↓zt_p22 hm, ↓zt_p23 hm, ↓zt_p26 hm, ↓zt_p28 hm, ↓zt_p29 hm, ↓zt_p30 hm, ↓zt_p31 hm, ↓zt_p32 hm, ↓zt_p33 hm, ↓zt_p34 hm, ↓zt_p35 hm, ↓zt_p36 hm, ↓zt_p40 hm, ↓zt_p19 hm, ↓zt_p20 hm, ↓zt_a1, ↓zt_a2, ↓zt_a3, ↓zt_a4, ↓zt_a5, ↓zt_a6, ↓zt_a7, ↓zt_a8, ↓zt_a9, ↓zt_a10, ↓zt_a11, ↓zt_a12, ↓zt_a13, ↓zt_a14, ↓zt_a15, ↓zt_a16, ↓zt_a17, ↓zt_a18, ↓zt_a19, ↓zt_a20, ↓zt_a21, ↓zt_s1 hm, ↓zt_s2 hm, ↓zt_s3 hm, ↓zt_s4 hm, ↓zt_s5 hm, ↓zt_s6 hm, ↓zt_s7 hm, ↓zt_s8 hm, ↓zt_s9 hm, ↓zt_s10 hm, ↓zt_s11 hm, ↓zt_s12 hm, ↓zt_s16 hm, ↓zt_s17 hm, ↓zt_s18 hm, ↓zt_s20 hm, ↓zt_s13 hm, ↓zt_s14 hm, ↓zt_s15 hm, ↓zt_s21 hm, ↓zt_l19, ↓zt_l17, forall_eq, ↓zqI_r, ↓zqL_r, ↓zqD_r, ↓zqF_r, ↓zqV_r, ↓zqR_r, ↓zqR_s, zboolb, zbool0, zbool1, true_and, and_true]
  refine zt_219 hm (by exact hM) hV hu.2.1 hu.1 (fun ho M' hk' hl => ?_) (fun ho M' hk' hl => ?_)
  · simp only [forall_eq, ↓zqI_r, ↓zqL_r, ↓zqD_r, ↓zqF_r, ↓zqV_r, ↓zqR_r, ↓zqR_s]
    exact ⟨fun h9 => absurd h9 (by decide), fun _ => h1 ((zs_ov_iff hV).mp ho) M' ((zt_pe.thr).kp hk' (by omega) (by omega))⟩
  · have hpe : zt_pe 0 M M' := (zt_pe.thr).kp hk' (by omega) (by omega)
    have e1 : M'.2.2.1 1 = V := hpe.V hM
    have hov : zs_ov V = false := by
      cases hb : zs_ov V with
      | false => rfl
      | true => exact absurd ((zs_ov_iff hV).mpr hb) ho
    have hp2 : zs_pa V ≠ 2 := by
      intro e
      unfold zs_ov at hov
      rw [e] at hov
      simp at hov
    simp only [↓zt_rc, ↓zt_g0, ↓zt_g1, ↓zt_g2, ↓zt_g3, ↓zt_g4, ↓zt_g5, ↓zt_g6, ↓zt_g7, ↓zt_g8, ↓zt_g9, ↓zt_g10, ↓zt_g11, ↓zt_g12, ↓zt_g13, ↓zt_g14, ↓zt_g15, ↓zt_g16, ↓zt_g17, ↓zt_g18, ↓zt_g19, ↓zt_g20, ↓zt_g21, ↓zt_g22, ↓zt_g23, ↓zt_g24, ↓zt_g25, ↓zt_g26, ↓zt_g27, ↓zt_g28, ↓zt_g29, ↓zt_g30, ↓zt_g31, ↓zt_g32, ↓zt_g33, ↓zt_g34, ↓zt_g35, ↓zt_g36, ↓zt_g37, ↓zt_g38, ↓zt_g39, ↓zt_g40, ↓zt_p4 hm, ↓zt_p5 hm, ↓zt_p6 hm, ↓zt_p15 hm, ↓zt_p21 hm, ↓zt_p22 hm, ↓zt_p23 hm, ↓zt_p26 hm, ↓zt_p28 hm, ↓zt_p29 hm, ↓zt_p30 hm, ↓zt_p31 hm, ↓zt_p32 hm, ↓zt_p33 hm, ↓zt_p34 hm, ↓zt_p35 hm, ↓zt_p36 hm, ↓zt_p40 hm, ↓zt_p19 hm, ↓zt_p20 hm, ↓zt_a1, ↓zt_a2, ↓zt_a3, ↓zt_a4, ↓zt_a5, ↓zt_a6, ↓zt_a7, ↓zt_a8, ↓zt_a9, ↓zt_a10, ↓zt_a11, ↓zt_a12, ↓zt_a13, ↓zt_a14, ↓zt_a15, ↓zt_a16, ↓zt_a17, ↓zt_a18, ↓zt_a19, ↓zt_a20, ↓zt_a21, ↓zt_s1 hm, ↓zt_s2 hm, ↓zt_s3 hm, ↓zt_s4 hm, ↓zt_s5 hm, ↓zt_s6 hm, ↓zt_s7 hm, ↓zt_s8 hm, ↓zt_s9 hm, ↓zt_s10 hm, ↓zt_s11 hm, ↓zt_s12 hm, ↓zt_s16 hm, ↓zt_s17 hm, ↓zt_s18 hm, ↓zt_s20 hm, ↓zt_s13 hm, ↓zt_s14 hm, ↓zt_s15 hm, ↓zt_s21 hm, ↓zt_l19, ↓zt_l17, forall_eq, ↓zqI_r, ↓zqL_r, ↓zqD_r, ↓zqF_r, ↓zqV_r, ↓zqR_r, ↓zqR_s, zboolb, zbool0, zbool1, true_and, and_true]
    refine ⟨fun _ => ?_, fun h9 => absurd trivial h9⟩
    refine zt_237 hm e1 ((hh.sI (j := 5) (x := 0) (by omega)).kp hk' (by omega)) (fun M1 hh1 g1 g2 g3 gA => ?_)
    have e2 : M1.2.2.1 1 = V := (gA 1 (by omega)).trans e1
    simp only [↓zt_rc, ↓zt_g0, ↓zt_g1, ↓zt_g2, ↓zt_g3, ↓zt_g4, ↓zt_g5, ↓zt_g6, ↓zt_g7, ↓zt_g8, ↓zt_g9, ↓zt_g10, ↓zt_g11, ↓zt_g12, ↓zt_g13, ↓zt_g14, ↓zt_g15, ↓zt_g16, ↓zt_g17, ↓zt_g18, ↓zt_g19, ↓zt_g20, ↓zt_g21, ↓zt_g22, ↓zt_g23, ↓zt_g24, ↓zt_g25, ↓zt_g26, ↓zt_g27, ↓zt_g28, ↓zt_g29, ↓zt_g30, ↓zt_g31, ↓zt_g32, ↓zt_g33, ↓zt_g34, ↓zt_g35, ↓zt_g36, ↓zt_g37, ↓zt_g38, ↓zt_g39, ↓zt_g40, ↓zt_p4 hm, ↓zt_p5 hm, ↓zt_p6 hm, ↓zt_p15 hm, ↓zt_p21 hm, ↓zt_p22 hm, ↓zt_p23 hm, ↓zt_p26 hm, ↓zt_p28 hm, ↓zt_p29 hm, ↓zt_p30 hm, ↓zt_p31 hm, ↓zt_p32 hm, ↓zt_p33 hm, ↓zt_p34 hm, ↓zt_p35 hm, ↓zt_p36 hm, ↓zt_p40 hm, ↓zt_p19 hm, ↓zt_p20 hm, ↓zt_a1, ↓zt_a2, ↓zt_a3, ↓zt_a4, ↓zt_a5, ↓zt_a6, ↓zt_a7, ↓zt_a8, ↓zt_a9, ↓zt_a10, ↓zt_a11, ↓zt_a12, ↓zt_a13, ↓zt_a14, ↓zt_a15, ↓zt_a16, ↓zt_a17, ↓zt_a18, ↓zt_a19, ↓zt_a20, ↓zt_a21, ↓zt_s1 hm, ↓zt_s2 hm, ↓zt_s3 hm, ↓zt_s4 hm, ↓zt_s5 hm, ↓zt_s6 hm, ↓zt_s7 hm, ↓zt_s8 hm, ↓zt_s9 hm, ↓zt_s10 hm, ↓zt_s11 hm, ↓zt_s12 hm, ↓zt_s16 hm, ↓zt_s17 hm, ↓zt_s18 hm, ↓zt_s20 hm, ↓zt_s13 hm, ↓zt_s14 hm, ↓zt_s15 hm, ↓zt_s21 hm, ↓zt_l19, ↓zt_l17, forall_eq, ↓zqI_r, ↓zqL_r, ↓zqD_r, ↓zqF_r, ↓zqV_r, ↓zqR_r, ↓zqR_s, zboolb, zbool0, zbool1, true_and, and_true]
    refine zt_250p hm e2 ?_
    simp only [↓zt_rc, ↓zt_g0, ↓zt_g1, ↓zt_g2, ↓zt_g3, ↓zt_g4, ↓zt_g5, ↓zt_g6, ↓zt_g7, ↓zt_g8, ↓zt_g9, ↓zt_g10, ↓zt_g11, ↓zt_g12, ↓zt_g13, ↓zt_g14, ↓zt_g15, ↓zt_g16, ↓zt_g17, ↓zt_g18, ↓zt_g19, ↓zt_g20, ↓zt_g21, ↓zt_g22, ↓zt_g23, ↓zt_g24, ↓zt_g25, ↓zt_g26, ↓zt_g27, ↓zt_g28, ↓zt_g29, ↓zt_g30, ↓zt_g31, ↓zt_g32, ↓zt_g33, ↓zt_g34, ↓zt_g35, ↓zt_g36, ↓zt_g37, ↓zt_g38, ↓zt_g39, ↓zt_g40, ↓zt_p4 hm, ↓zt_p5 hm, ↓zt_p6 hm, ↓zt_p15 hm, ↓zt_p21 hm, ↓zt_p22 hm, ↓zt_p23 hm, ↓zt_p26 hm, ↓zt_p28 hm, ↓zt_p29 hm, ↓zt_p30 hm, ↓zt_p31 hm, ↓zt_p32 hm, ↓zt_p33 hm, ↓zt_p34 hm, ↓zt_p35 hm, ↓zt_p36 hm, ↓zt_p40 hm, ↓zt_p19 hm, ↓zt_p20 hm, ↓zt_a1, ↓zt_a2, ↓zt_a3, ↓zt_a4, ↓zt_a5, ↓zt_a6, ↓zt_a7, ↓zt_a8, ↓zt_a9, ↓zt_a10, ↓zt_a11, ↓zt_a12, ↓zt_a13, ↓zt_a14, ↓zt_a15, ↓zt_a16, ↓zt_a17, ↓zt_a18, ↓zt_a19, ↓zt_a20, ↓zt_a21, ↓zt_s1 hm, ↓zt_s2 hm, ↓zt_s3 hm, ↓zt_s4 hm, ↓zt_s5 hm, ↓zt_s6 hm, ↓zt_s7 hm, ↓zt_s8 hm, ↓zt_s9 hm, ↓zt_s10 hm, ↓zt_s11 hm, ↓zt_s12 hm, ↓zt_s16 hm, ↓zt_s17 hm, ↓zt_s18 hm, ↓zt_s20 hm, ↓zt_s13 hm, ↓zt_s14 hm, ↓zt_s15 hm, ↓zt_s21 hm, ↓zt_l19, ↓zt_l17, forall_eq, ↓zqI_r, ↓zqL_r, ↓zqD_r, ↓zqF_r, ↓zqV_r, ↓zqR_r, ↓zqR_s, zboolb, zbool0, zbool1, true_and, and_true]
    refine zt_218 hm zt_sAj (zs_mkp_ok hV hp2) (fun M2 hk2 => ?_)
    simp only [forall_eq, ↓zqI_r, ↓zqL_r, ↓zqD_r, ↓zqF_r, ↓zqV_r, ↓zqR_r, ↓zqR_s]
    exact h0 hov M2 ((((zt_pq.ofe hpe).rec g1 gA).sA1).kp hk2 (by omega) (by omega)) ((hk2.2.2.2 1 (by omega)).trans zt_sAj) ((hh1.sA (by omega)).kp hk2 (by omega))
end ZT9
