/-! THE REFERENCE: query, whole -/
def zq_S1 (b : Nat → Nat) (L : Nat) : zp_P := zp_adv b L (zp_chk (zp_S0 b L) (zp_isw b (zp_S0 b L) (zw "first") = true ∨ zp_isw b (zp_S0 b L) (zw "many") = true) 1)
def zq_txt (b : Nat → Nat) (L : Nat) : zq_X := zq_go b L 1300 3 (zq_S1 b L, 0, [])
def zq_end (b : Nat → Nat) (L : Nat) : zp_P := zp_end (zq_txt b L).1
/-- going over the plans -/
def zq_lp (V : zs_V) (D : Nat → Bool) (f : Bool) : Nat → Nat → Nat → Int32
  | 0, _, c => if f then -1 else nI c
  | q + 1, k, c => if zs_w V 0 k ≤ zs_cap V ∧ D k = true then (if f then nI k else zq_lp V D f q (k + 1) (c + 1)) else zq_lp V D f q (k + 1) c
def zq_an (V : zs_V) (D : Nat → Bool) (f : Bool) : Int32 := zq_lp V D f (zs_all V) 0 0
def zt_q9 (M M' : zt_M) : Prop := M'.1 5 = 0 ∧ (∀ k, k = 4 ∨ k = 6 ∨ k = 26 → M'.1 k = M.1 k) ∧ M'.1 28 = 0 ∧ ∀ j, j = 1 ∨ j = 3 ∨ j = 4 ∨ j = 17 ∨ j = 18 → M'.2.2.1 j = M.2.2.1 j
section ZQW
variable {G : zPg} {n : Nat} {σ : zS} {m : Nat} {N : Nat → Option Nat} {M M' M'' : zt_M} {Q : zQ} {Y : zY} {V : zs_V} {b : Nat → Nat} {L : Nat}
theorem zl_295 {s : zS} {x y : Nat} (hx : x < 2147483648) (hy : y < 2147483648) : zCall G (n + 1) 295 [.int (nI x), .int (nI y)] Q Y s ↔ Q (some (.int (nI (min x y)))) s := by
  rw [zc_eq (by decide) (b := zb295) rfl]
  simp only [zb295, forall_eq, List.cons.injEq, Value.ref.injEq, Value.int.injEq, Value.long.injEq, and_true, and_assoc, true_and, va_rf_iff, va_rf_iff2, exists_and_left, exists_eq_left', exists_eq_left, zJ]
  have e : nI y < nI x ↔ y < x := nI_ltI (by omega) (by omega)
  rw [e]
  by_cases g : y < x
  · rw [show min x y = y by omega]
    exact ⟨fun h => h.1 g, fun h => ⟨fun _ => h, fun h9 => absurd g h9⟩⟩
  · rw [show min x y = x by omega]
    exact ⟨fun h => h.2 g, fun h => ⟨fun h9 => absurd h9 g, fun _ => h⟩⟩
theorem zq_txt_len (hL : L ≤ 200) (h : (zq_txt b L).1.2.1 = 0) : (zq_txt b L).2.2.length ≤ 200 := by
  have hL5 : L ≤ 500 := by omega
  have h0 : zp_ok b L (zp_S0 b L).1 := zp_tok_ok hL5 (Nat.zero_le _)
  have h1 : zp_ok b L (zq_S1 b L).1 := ((zp_go.chk.trans (zp_go.adv hL5)) h0).1
  have h2 := zq_go_pg (b := b) hL5 1300 3 (zq_S1 b L, 0, []) h1
  have h3 := h2.2 h
  have h4 := h2.1.2.1
  have h5 := h2.1.2.2.1
  have h6 := h3.2.2
  have h7 : zq_go b L 1300 3 (zq_S1 b L, 0, []) = zq_txt b L := rfl
  rw [h7] at h4 h5 h6
  have h8 : ((zq_S1 b L).1.2.1 : Int) - 0 + 0 ≤ ((zq_txt b L).1.1.2.1 : Int) - (zq_txt b L).2.2.length := h6
  omega
theorem zt_285 (hm : G.1 ≤ m) (hw : zt_wd G σ m N) (hn : zt_nm σ m N) (hM : M.2.2.1 1 = V) (hV : zs_ok V) {B : Nat} (hB : M.1 28 = nI B) (hB5 : B ≤ 500) (hb : ∀ i, i < B → M.2.2.1 18 i = nI (b i) ∧ b i < 256) {x : Int32}
    (hbad : ¬ (0 ≤ x ∧ x ≤ nI (min B 200)) → ∀ M', zt_pe 1 M M' → Q (some (.int 0)) (zt_S σ m N M'))
    (hok : ∀ L, x = nI L → L ≤ B → L ≤ 200 → (zq_end b L).2.1 = 0 → ∃ D : Nat → Bool, (∀ p, p < zs_all V → zq_rn V p (zq_txt b L).2.2 [] = some [if D p then 1 else 0]) ∧ ∀ M', zt_q9 M M' → M'.1 35 = -1 → Q (some (.int (zq_an V D (zp_isw b (zp_S0 b L) (zw "first"))))) (zt_S σ m N M'))
    (herr : ∀ L, x = nI L → L ≤ B → L ≤ 200 → ¬ (zq_end b L).2.1 = 0 → ∀ M', zt_q9 M M' → M'.1 35 = nI (zq_end b L).2.2 → Q (some (.int (-1000000000 - nI (zq_end b L).2.1))) (zt_S σ m N M')) : zCall G (n + 28) 285 [.ref m, .int x] Q Y (zt_S σ m N M) := by
  have hA := hV.all
  refine ze285 ⟨_, _, rfl, ?_⟩
  have e28 : va_up M.1 5 0 28 = nI B := (va_up_ne _ _ (by omega)).trans hB
  simp only [↓zt_p5 hm, ↓zt_g28, e28]
  refine (zl_295 (y := 200) (by omega) (by omega)).mpr (zqI_r.mpr ?_)
  refine zl_166.mpr (zqI_r.mpr ?_)
  simp only [zs_b0, Classical.not_not]
  refine ⟨fun hin => ?_, fun hno => ?_⟩
  · obtain ⟨L, rfl, hL3⟩ := nI_ge0 hin.1
    have hLB : L ≤ min B 200 := (nI_leI (by omega) (by omega)).mp hin.2
    have hLok := hok L rfl (by omega) (by omega)
    have hLer := herr L rfl (by omega) (by omega)
    clear hok herr hbad
    have hL2 : L ≤ 200 := by omega
    have hL5 : L ≤ 500 := by omega
    simp only [↓zt_p40 hm, ↓zt_rc]
    refine zt_265 hm (b := b) (L := L) hL5 (fun i hi => hb i (by omega)) fun M1 k1 k2 k3 k4 => zqV_r.mpr ?_
    obtain ⟨_, _, _, _, _, w5, w6, _⟩ := hw M1
    simp only [↓zt_rc]
    refine zt_272 k4 w5 (zqI_r.mpr ?_)
    have ho0 : zp_ok b L (zp_S0 b L).1 := k4.2.1
    have s1 : zq_in (zq_S1 b L, 0, []) := fun he => by
      have he : (zp_adv b L (zp_chk (zp_S0 b L) (zp_isw b (zp_S0 b L) (zw "first") = true ∨ zp_isw b (zp_S0 b L) (zw "many") = true) 1)).2.1 = 0 := he
      rw [zp_adv_e] at he
      have h1 := zp_chk_e (by omega) he
      have h2 : (zp_S0 b L).1.1 ≠ 0 := h1.1.elim (fun h => (zq_isw_t h).1) (fun h => (zq_isw_t h).1)
      have h3 := zp_adv_lt ho0 h2 h1.2.1
      show 0 < (zp_adv b L (zp_chk (zp_S0 b L) _ 1)).1.2.1
      rw [h1.2.2]
      omega
    have hS1 : zq_S1 b L = zp_adv b L (zp_chk (zp_S0 b L) (zp_isw b (zp_S0 b L) (zw "first") = true ∨ zp_isw b (zp_S0 b L) (zw "many") = true) 1) := rfl
    have hT : zq_txt b L = zq_go b L 1300 3 (zq_S1 b L, 0, []) := rfl
    have hE : zq_end b L = zp_end (zq_txt b L).1 := rfl
    have hTl := zq_txt_len (b := b) hL2
    refine zJ_go (fun (j : Int32 → zS → Prop) => j (zs_b (zp_isw b (zp_S0 b L) (zw "first") = true ∨ zp_isw b (zp_S0 b L) (zw "many") = true)) (zt_S σ m N M1)) ?_ ?_
    · simp only [↓zt_rc]
      refine zt_273 hm k4 (c := 1) (by omega) fun M2 k5 k6 => zqV_r.mpr ?_
      simp only [↓zt_rc]
      refine zt_275 hm k6 fun M3 k7 k8 => zqV_r.mpr ?_
      rw [← hS1] at k8
      have k9 : zt_qx b L (zq_S1 b L, 0, []) M3 := by
        refine zt_qx.mk k8 ?_ ⟨?_, fun i hi => absurd hi (Nat.not_lt_zero _)⟩
        · rw [k7.1 36 (by omega), k5.1 36 (by omega)]
          exact k2
        · rw [k7.1 40 (by omega), k5.1 40 (by omega), k1 40 (by omega)]
          exact va_up_self (va_up M.1 5 0) 40 0
      simp only [↓zt_rc]
      refine (zt_comp hm hw hn hL2 1300).2.2 _ M3 (n + 27) _ _ k9 (by show 0 ≤ 6; omega) s1 ⟨by show 2 < 1300; omega, fun _ => by show 6 * (L - (zq_S1 b L).1.2.1) + 2 < 1300; omega⟩ (by show 3 * (6 - 0) + 9 ≤ n + 27; omega) fun M4 c1 c2 => zqV_r.mpr ?_
      rw [← hT] at c2
      generalize zq_txt b L = X4 at *
      obtain ⟨S4, d4, l4⟩ := X4
      have c3 : zt_ps b L S4 M4 := c2.1
      have c4 : zt_cd l4 M4 := c2.2.2
      have hE : zq_end b L = zp_end S4 := hE
      have hTl : S4.2.1 = 0 → l4.length ≤ 200 := hTl
      have t0 : M4.1 32 = 0 ↔ S4.1.1 = 0 := c3.t 0 (by omega)
      simp only [↓zt_g33, c3.e0]
      refine zJ_go (fun (j : Int32 → zS → Prop) => j (zs_b (¬ S4.2.1 = 0 ∨ S4.1.1 = 0)) (zt_S σ m N M4)) ?_ ?_
      · simp only [↓zt_rc]
        refine zt_273 hm c3 (c := 1) (by omega) fun M5 c5 c6 => zqV_r.mpr ?_
        have c6 : zt_ps b L (zp_end S4) M5 := c6
        simp only [↓zt_rc]
        refine zt_284 hm c6 fun M6 f1 f2 f3 f4 => zqI_r.mpr ?_
        have ee : nI (zp_end S4).2.1 = 0 ↔ (zp_end S4).2.1 = 0 := by
          have := c6.e0
          rw [c6.2.2.2.2.1] at this
          exact this
        have g1 : ∀ k, k < 28 → k ≠ 5 → M6.1 k = M.1 k := by
          intro k h1 h2
          rw [f1 k (by omega) (by omega), c5.1 k (by omega), c1.1 k (by omega), k7.1 k (by omega), k5.1 k (by omega), k1 k (by omega)]
          show va_up (va_up M.1 5 0) 40 0 k = _
          rw [va_up_ne _ _ (by omega), va_up_ne _ _ h2]
        have g5 : M6.1 5 = 0 := by
          rw [f1 5 (by omega) (by omega), c5.1 5 (by omega), c1.1 5 (by omega), k7.1 5 (by omega), k5.1 5 (by omega), k1 5 (by omega)]
          show va_up (va_up M.1 5 0) 40 0 5 = _
          rw [va_up_ne _ _ (by omega), va_up_self]
        have g2 : ∀ j, j ≠ 20 → M6.2.2.1 j = M.2.2.1 j := by
          intro j hj
          rw [f4, c5.2, c1.2.2.1 j hj, k7.2, k5.2, k3]
        have q9 : zt_q9 M M6 := ⟨g5, fun k hk => g1 k (by omega) (by omega), f2, fun j hj => g2 j (by omega)⟩
        have g33 : M6.1 33 = nI (zp_end S4).2.1 := by
          rw [f1 33 (by omega) (by omega)]
          exact c6.2.2.2.2.1
        rw [hE] at hLok hLer
        simp only [ee]
        refine ⟨fun hy => ?_, fun hne => ?_⟩
        · obtain ⟨D, hD, hQ⟩ := hLok hy
          have hS4 : S4.2.1 = 0 := (zp_chk_e (by omega) hy).2.1
          have hl4 := hTl hS4
          have hD : ∀ p, p < zs_all V → zq_rn V p l4 [] = some [if D p then 1 else 0] := hD
          rw [if_pos hy] at f3
          have h6V : M6.2.2.1 1 = V := (g2 1 (by omega)).trans hM
          simp only [↓zt_rc]
          refine zt_177 hm h6V hV fun M7 d1 d2 d3 => zqV_r.mpr ?_
          have cd7 : zt_cd l4 M7 := by
            refine ⟨?_, ?_⟩
            · rw [d1.1, f1 40 (by omega) (by omega), c5.1 40 (by omega)]
              exact c4.1
            · rw [d1.2.2.2 20 (by omega), f4, c5.2]
              exact c4.2
          have h7V : M7.2.2.1 1 = V := (d1.2.2.2 1 (by omega)).trans h6V
          have q97 : zt_q9 M M7 := ⟨by rw [d1.1]; exact q9.1, fun k hk => by rw [d1.1]; exact q9.2.1 k hk, by rw [d1.1]; exact q9.2.2.1, fun j hj => (d1.2.2.2 j (by omega)).trans (q9.2.2.2 j hj)⟩
          have h35 : M7.1 35 = -1 := by rw [d1.1]; exact f3
          have fin : ∀ M8, zt_hk M7 M8 → Q (some (.int (zq_an V D (zp_isw b (zp_S0 b L) (zw "first"))))) (zt_S σ m N M8) := fun M8 h8 => hQ M8 ⟨by rw [h8.1]; exact q97.1, fun k hk => by rw [h8.1]; exact q97.2.1 k hk, by rw [h8.1]; exact q97.2.2.1, fun j hj => by rw [h8.2.2.1]; exact q97.2.2.2 j hj⟩ (by rw [h8.1]; exact h35)
          refine zf3 0 (zs_all V) (fun k (x1 : Int32) s' => ∃ M8 cn, s' = zt_S σ m N M8 ∧ zt_hk M7 M8 ∧ x1 = nI cn ∧ zq_lp V D (zp_isw b (zp_S0 b L) (zw "first")) (zs_all V - k) k cn = zq_an V D (zp_isw b (zp_S0 b L) (zw "first"))) (by omega) ?_ ?_ ⟨M7, 0, rfl, zt_hk.rfl', rfl, rfl⟩
          · rintro rec k x1 s' _ hk ⟨M8, cn, rfl, a1, rfl, a3⟩ hrec
            have h8V : M8.2.2.1 1 = V := by rw [a1.2.2.1]; exact h7V
            have l8 : zt_ly V M8 (zs_all V) := fun f hf s hs => by rw [a1.2.2.1]; exact d2 f hf s hs
            have r8 : zt_lr V true (zs_thr V) M8 (zs_all V) := fun q hq => by rw [a1.2.2.1]; exact d3 q hq
            have cd8 : zt_cd l4 M8 := ⟨by rw [a1.1]; exact cd7.1, by rw [a1.2.2.1]; exact cd7.2⟩
            rw [show zs_all V - k = (zs_all V - (k + 1)) + 1 by omega] at a3
            simp only [zq_lp] at a3
            simp only [↓zt_rc, ↓zl_159, forall_eq, ↓zqI_r, ↓zqL_r, ↓zqD_r, ↓zqF_r, ↓zqV_r, ↓zqR_r, ↓zqR_s]
            rw [zl_shl h8V hV]
            refine ⟨fun hle => absurd hle (nI_ge hk (by omega)), fun _ => ?_⟩
            refine (zl_fit h8V hV l8 hk).mpr (zqI_r.mpr ?_)
            simp only [zs_b0, Classical.not_not]
            refine zJ_go (fun (j : Int32 → zS → Prop) => ∀ M9 cn', zt_hk M7 M9 → zq_lp V D (zp_isw b (zp_S0 b L) (zw "first")) (zs_all V - (k + 1)) (k + 1) cn' = zq_an V D (zp_isw b (zp_S0 b L) (zw "first")) → j (nI cn') (zt_S σ m N M9)) ?_ ?_
            · intro M9 cn' b1 b2
              exact hrec _ _ ⟨M9, cn', rfl, b1, rfl, b2⟩
            · intro j hj
              refine ⟨fun hnf => ?_, fun hf => ?_⟩
              · rw [if_neg (fun h9 => hnf h9.1)] at a3
                exact hj M8 cn a1 a3
              · simp only [↓zt_rc]
                refine zt_292 hm h8V hV l8 r8 hk cd8 hl4 (hD k hk) fun M9 b1 => zqI_r.mpr ?_
                have eD : ((if D k = true then (1 : Int64) else 0) = 1) ↔ D k = true := by
                  cases D k with
                  | true => exact ⟨fun _ => rfl, fun _ => rfl⟩
                  | false => exact ⟨fun h9 => absurd h9 (by decide), fun h9 => absurd h9 (by decide)⟩
                simp only [zs_b0, Classical.not_not, eD]
                refine ⟨fun hd => ?_, fun hd => ?_⟩
                · rw [if_pos ⟨hf, hd⟩] at a3
                  refine ⟨fun hnF => ?_, fun hyF => ?_⟩
                  · rw [if_neg hnF] at a3
                    rw [nI_1]
                    exact hj M9 (cn + 1) (a1.trans b1) a3
                  · rw [if_pos hyF] at a3
                    have := fin M9 (a1.trans b1)
                    rw [← a3] at this
                    exact this
                · rw [if_neg (fun h9 => hd h9.2)] at a3
                  exact hj M9 cn (a1.trans b1) a3
          · rintro rec x1 s' ⟨M8, cn, rfl, a1, rfl, a3⟩
            have h8V : M8.2.2.1 1 = V := by rw [a1.2.2.1]; exact h7V
            rw [Nat.sub_self] at a3
            simp only [zq_lp] at a3
            simp only [↓zt_rc, ↓zl_159, forall_eq, ↓zqI_r, ↓zqL_r, ↓zqD_r, ↓zqF_r, ↓zqV_r, ↓zqR_r, ↓zqR_s]
            rw [zl_shl h8V hV]
            refine ⟨fun _ => ?_, fun hn => absurd (nI_le (Nat.le_refl _) (by omega)) hn⟩
            have := fin M8 a1
            rw [← a3] at this
            simp only [zJ, zs_b0, Classical.not_not]
            refine ⟨fun hnF => ?_, fun hyF => ?_⟩
            · rw [if_neg hnF] at this
              exact this
            · rw [if_pos hyF] at this
              exact this
        · rw [if_neg hne] at f3
          simp only [↓zt_g33, g33]
          exact hLer hne M6 q9 f3
      · intro j hj
        refine zJ_go (fun (j' : zS → Prop) => (¬ S4.2.1 = 0 ∨ S4.1.1 = 0) → j' (zt_S σ m N M4)) ?_ ?_
        · intro hc
          rw [zs_bt hc] at hj
          exact hj
        · intro j' hj'
          refine ⟨fun h9 => hj' (Or.inl h9), fun h9 => ?_⟩
          simp only [↓zt_g32, t0]
          refine ⟨fun h8 => ?_, fun h8 => hj' (Or.inr h8)⟩
          rw [zs_bf (fun h7 => h7.elim (fun h6 => h6 h9) h8)] at hj
          exact hj
    · intro j hj
      refine zJ_go (fun (j' : zS → Prop) => (zp_isw b (zp_S0 b L) (zw "first") = true ∨ zp_isw b (zp_S0 b L) (zw "many") = true) → j' (zt_S σ m N M1)) ?_ ?_
      · intro hc
        rw [zs_bt hc] at hj
        exact hj
      · intro j' hj'
        simp only [zs_b0, Classical.not_not]
        refine ⟨fun h9 => hj' (Or.inl h9), fun h9 => ?_⟩
        simp only [↓zt_rc]
        refine zt_272 k4 w6 (zqI_r.mpr ?_)
        simp only [zs_b0, Classical.not_not]
        refine ⟨fun h8 => ?_, fun h8 => hj' (Or.inr h8)⟩
        rw [zs_bf (fun h7 => h7.elim h9 h8)] at hj
        exact hj
  · simp only [↓zt_rc, ↓zl_163 hm]
    exact zqI_r.mpr (hbad hno _ zt_pe.thr.re)
end ZQW
