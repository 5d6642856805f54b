/-! READING TEXTS: members of a listed set -/
theorem nx_or (a b : Nat) : nI a ||| nI b = nI (a ||| b) := by
  apply Int32.toBitVec_inj.mp
  exact (BitVec.ofNat_or ..).symm
def zp_m1 (b : Nat → Nat) (D : zs_V) (S : zp_P) : zp_P := zp_chk S (zp_val b S.1 < zs_n D) 2
def zp_mo (b : Nat → Nat) (D : zs_V) (S : zp_P) : Nat := if (zp_m1 b D S).2.1 = 0 then 2 ^ zp_val b S.1 else 0
def zp_m2 (b : Nat → Nat) (D : zs_V) (S : zp_P) (s : Nat) : zp_P := zp_chk (zp_m1 b D S) (¬ (zp_m1 b D S).2.1 = 0 ∨ s &&& zp_mo b D S = 0) 4
def zp_m3 (b : Nat → Nat) (D : zs_V) (S : zp_P) (s : Nat) : zp_P := zp_chk (zp_m2 b D S s) (¬ (zp_m2 b D S s).2.1 = 0 ∨ zs_sm D 0 (s ||| zp_mo b D S) (zs_n D) ≤ zs_cap D) 5
def zp_mem (b : Nat → Nat) (L : Nat) (D : zs_V) (S : zp_P) (s : Nat) : zp_P := zp_adv b L (zp_m3 b D S s)
theorem zp_mo_lt {b : Nat → Nat} {D : zs_V} {S : zp_P} (hD : zs_ok D) : zp_mo b D S < zs_all D := by
  unfold zp_mo
  by_cases h : (zp_m1 b D S).2.1 = 0
  · rw [if_pos h]
    have := (zp_chk_e (by omega) h).1
    unfold zs_all
    exact Nat.pow_lt_pow_right (by omega) this
  · rw [if_neg h]
    have := hD.all
    omega
section ZPM
variable {G : zPg} {n : Nat} {σ : zS} {m : Nat} {N : Nat → Option Nat} {M M' M'' M0 : zt_M} {Q : zQ} {Y : zY} {V D : zs_V} {b : Nat → Nat} {L : Nat} {S : zp_P} {X : zp_X}
theorem zt_283 (hm : G.1 ≤ m) (hs : zt_ps b L S M) (hM : M.2.2.1 2 = D) (hD : zs_ok D) {s : Nat} (hss : s < zs_all D) (h : ∀ M', zt_pr M M' → zt_ps b L (zp_mem b L D S s) M' → Q (some (.int (nI (s ||| zp_mo b D S)))) (zt_S σ m N M')) : zCall G (n + 5) 283 [.ref m, .int (nI s)] Q Y (zt_S σ m N M) := by
  obtain ⟨e0, hn10⟩ := hD.n0
  have hall := hD.all
  have hv := zp_val_le b S.1
  have hmo := zp_mo_lt (b := b) (S := S) hD
  have hor : s ||| zp_mo b D S < zs_all D := Nat.or_lt_two_pow hss hmo
  have e2 : M.2.2.1 2 0 = nI (zs_n D) := by rw [hM]; exact e0
  refine ze283 ⟨_, _, rfl, ?_⟩
  simp only [↓zt_rc]
  refine zt_277 hs (zqI_r.mpr ?_)
  simp only [↓zt_g1, ↓zt_a2, zi_0, zj_0, e2, true_and]
  refine zl_166.mpr (zqI_r.mpr ?_)
  have ec : ((0 : Int32) ≤ nI (zp_val b S.1) ∧ nI (zp_val b S.1) ≤ nI (zs_n D) - 1) ↔ zp_val b S.1 < zs_n D := by
    have e1 : nI (zs_n D) - 1 = iI ((zs_n D : Int) - 1) := by
      show nI (zs_n D) - nI 1 = _
      rw [← iI_nat, ← iI_nat, iI_sub]
      rfl
    rw [e1, fa_le, fa_le, ← iI_nat, iI_to (by omega) (by omega), iI_to (by omega) (by omega)]
    show (0 : Int) ≤ _ ∧ _ ↔ _
    omega
  rw [zs_bcong ec]
  simp only [↓zt_rc]
  refine zt_273 hm hs (c := 2) (by omega) fun M1 k1 k2 => zqV_r.mpr ?_
  have k2 : zt_ps b L (zp_m1 b D S) M1 := k2
  simp only [↓zt_g33, k2.e0]
  refine zJ_go (fun (j : Int32 → zS → Prop) => j (nI (zp_mo b D S)) (zt_S σ m N M1)) ?_ ?_
  · simp only [↓zt_g33, k2.e0, nx_or, nx_and]
    refine zJ_go (fun (j : Int32 → zS → Prop) => j (zs_b (¬ (zp_m1 b D S).2.1 = 0 ∨ s &&& zp_mo b D S = 0)) (zt_S σ m N M1)) ?_ ?_
    · simp only [↓zt_rc]
      refine zt_273 hm k2 (c := 4) (by omega) fun M2 k3 k4 => zqV_r.mpr ?_
      have k4 : zt_ps b L (zp_m2 b D S s) M2 := k4
      have eD : M2.2.2.1 2 = D := by rw [k3.2, k1.2]; exact hM
      simp only [↓zt_g33, k4.e0]
      refine zJ_go (fun (j : Int32 → zS → Prop) => j (zs_b (¬ (zp_m2 b D S s).2.1 = 0 ∨ zs_sm D 0 (s ||| zp_mo b D S) (zs_n D) ≤ zs_cap D)) (zt_S σ m N M2)) ?_ ?_
      · simp only [↓zt_rc]
        refine zt_273 hm k4 (c := 5) (by omega) fun M3 k5 k6 => zqV_r.mpr ?_
        have k6 : zt_ps b L (zp_m3 b D S s) M3 := k6
        simp only [↓zt_rc]
        exact zt_275 hm k6 fun M4 k7 k8 => zqV_r.mpr (h M4 (((k1.trans k3).trans k5).trans k7) k8)
      · intro j hj
        simp only [zJ, ↓zt_g1]
        refine ⟨fun hn => ?_, fun hy => ?_⟩
        · rw [zs_bt (Or.inl hn)] at hj
          exact hj
        · refine zt_162 (j := 2) (Or.inr rfl) eD e0 hn10 (f := 0) (s := s ||| zp_mo b D S) (by omega) (by omega) (zqI_r.mpr ?_)
          have hsm := zs_sm_b hD (f := 0) (by omega) (s ||| zp_mo b D S) (zs_n D) (Nat.le_refl _)
          have e1 : M2.2.2.1 2 1 = D 1 := by rw [eD]
          have ec2 : D 1 < iI (zs_sm D 0 (s ||| zp_mo b D S) (zs_n D)) ↔ ¬ zs_sm D 0 (s ||| zp_mo b D S) (zs_n D) ≤ zs_cap D := by
            rw [fa_lt, iI_to (by omega) (by omega)]
            unfold zs_cap
            omega
          simp only [↓zt_g1, ↓zt_a2, zi_1, zj_1, e1, true_and, ec2, Classical.not_not]
          refine ⟨fun hno => ?_, fun hyes => ?_⟩
          · rw [zs_bf (fun h9 => h9.elim (fun h8 => h8 hy) hno)] at hj
            exact hj
          · rw [zs_bt (Or.inr hyes)] at hj
            exact hj
    · intro j hj
      have ez : nI (s &&& zp_mo b D S) = 0 ↔ s &&& zp_mo b D S = 0 := by
        show _ = nI 0 ↔ _
        have : s &&& zp_mo b D S < 2147483648 := zn_andlt (by omega)
        rw [nI_eq this (by omega)]
      simp only [zJ, ez]
      refine ⟨fun hn => ?_, fun hy => ⟨fun hno => ?_, fun hyes => ?_⟩⟩
      · rw [zs_bt (Or.inl hn)] at hj
        exact hj
      · rw [zs_bf (fun h9 => h9.elim (fun h8 => h8 hy) hno)] at hj
        exact hj
      · rw [zs_bt (Or.inr hyes)] at hj
        exact hj
  · intro j hj
    unfold zp_mo at hj
    refine ⟨fun hn => ?_, fun hy => ?_⟩
    · rw [if_neg hn] at hj
      exact hj
    · simp only [↓zt_rc]
      refine zt_277 k2 (zqI_r.mpr ?_)
      obtain ⟨g1, g2, g3⟩ := zp_chk_e (S := S) (ok := zp_val b S.1 < zs_n D) (c := 2) (by omega) hy
      have g3 : zp_m1 b D S = S := g3
      rw [if_pos hy] at hj
      rw [g3, zn_shl _ (by omega)]
      exact hj
end ZPM
