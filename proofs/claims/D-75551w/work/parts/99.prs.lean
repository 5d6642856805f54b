/-! READING TEXTS: listed sets -/
def zp_ml (b : Nat → Nat) (L : Nat) (D : zs_V) : Nat → zp_P → Nat → zp_P × Nat
  | 0, S, s => (S, s)
  | q + 1, S, s => if S.2.1 = 0 ∧ S.1.1 = 2 then zp_ml b L D q (zp_mem b L D S s) (s ||| zp_mo b D S) else (S, s)
def zp_l1 (b : Nat → Nat) (L : Nat) (g : Bool) (X : zp_X) : zp_P := zp_adv b L (zp_chk X.1 (zs_lc X.2 g < 5) 3)
def zp_l2 (b : Nat → Nat) (L : Nat) (g : Bool) (X : zp_X) : zp_P × Nat := zp_ml b L X.2 501 (zp_l1 b L g X) 0
def zp_l3 (b : Nat → Nat) (L : Nat) (g : Bool) (X : zp_X) : zp_P := zp_xs b L (zp_l2 b L g X).1 59
def zp_list (b : Nat → Nat) (L : Nat) (g : Bool) (X : zp_X) : zp_X := (zp_l3 b L g X, if (zp_l3 b L g X).2.1 = 0 then va_up (va_up X.2 (zs_cb g + zs_lc X.2 g) (nI (zp_l2 b L g X).2)) (zs_ci g) (nI (zs_lc X.2 g + 1)) else X.2)
theorem zp_ml_stop {b : Nat → Nat} {L : Nat} {D : zs_V} {S : zp_P} {s : Nat} (h : ¬ (S.2.1 = 0 ∧ S.1.1 = 2)) : ∀ q, zp_ml b L D q S s = (S, s)
  | 0 => rfl
  | q + 1 => by
    show (if S.2.1 = 0 ∧ S.1.1 = 2 then zp_ml b L D q (zp_mem b L D S s) (s ||| zp_mo b D S) else (S, s)) = _
    rw [if_neg h]
theorem zp_tok_b {b : Nat → Nat} {L p0 : Nat} (h : p0 ≤ L) : p0 ≤ (zp_tok b L p0).2.1 := by
  have h1 := (zp_run_b (fun i => zp_sp (b i)) L 501 p0 h).1
  unfold zp_tok
  generalize zp_run (fun i => zp_sp (b i)) L 501 p0 = p at *
  dsimp only
  split
  · exact h1
  · split
    · exact h1
    · split
      · exact h1
      · exact h1
theorem zp_adv_lt {b : Nat → Nat} {L : Nat} {S : zp_P} (ho : zp_ok b L S.1) (ht : S.1.1 ≠ 0) (he : S.2.1 = 0) : S.1.2.1 < (zp_adv b L S).1.2.1 := by
  unfold zp_adv
  rw [if_pos he]
  have h1 := ho.2.2.2.1 ht
  have h2 := zp_tok_b (b := b) ho.2.2.1
  show S.1.2.1 < (zp_tok b L S.1.2.2).2.1
  omega
theorem zp_adv_le {b : Nat → Nat} {L : Nat} {S : zp_P} (ho : zp_ok b L S.1) : S.1.2.1 ≤ (zp_adv b L S).1.2.1 := by
  unfold zp_adv
  split
  · have h1 := ho.2.1
    have h2 := zp_tok_b (b := b) ho.2.2.1
    show S.1.2.1 ≤ (zp_tok b L S.1.2.2).2.1
    omega
  · exact Nat.le_refl _
theorem zp_mem_e {b : Nat → Nat} {L : Nat} {D : zs_V} {S : zp_P} {s : Nat} (h : (zp_mem b L D S s).2.1 = 0) : zp_mem b L D S s = zp_adv b L S ∧ S.2.1 = 0 ∧ zp_val b S.1 < zs_n D := by
  unfold zp_mem at *
  rw [zp_adv_e] at h
  have h3 := zp_chk_e (by omega) h
  have h2 := zp_chk_e (by omega) h3.2.1
  have h1 := zp_chk_e (by omega) h2.2.1
  have e : zp_m3 b D S s = S := h3.2.2.trans (h2.2.2.trans h1.2.2)
  rw [e]
  exact ⟨rfl, h1.2.1, h1.1⟩
section ZPL
variable {G : zPg} {n : Nat} {σ : zS} {m : Nat} {N : Nat → Option Nat} {M M' M'' M0 : zt_M} {Q : zQ} {Y : zY} {V D : zs_V} {b : Nat → Nat} {L : Nat} {S : zp_P} {X : zp_X}
theorem zt_282 (hm : G.1 ≤ m) (hs : zt_px b L X M) (hD : zs_ok X.2) {g : Bool} {x : Int32} (hx : x = 0 ↔ g = false) (h : ∀ M', zt_pw M M' → zt_px b L (zp_list b L g X) M' → Q none (zt_S σ m N M')) : zCall G (n + 6) 282 [.ref m, .int x] Q Y (zt_S σ m N M) := by
  obtain ⟨x1, x2, x3⟩ := zx_ci hx
  obtain ⟨hl, hl5⟩ := hD.lc g
  have hcl := zs_ci_lt g
  have hci : (nI (zs_ci g)).toNatClampNeg = zs_ci g := nI_cl (by omega)
  have hcin : vp_in (nI (zs_ci g)) 61 := nI_i (by omega) (by omega)
  have hcb : zs_cb g + zs_lc X.2 g < 62 := by
    unfold zs_cb
    split
    · omega
    · omega
  have eD : M.2.2.1 2 = X.2 := hs.2
  refine ze282 ⟨_, _, rfl, ?_⟩
  simp only [↓zt_g1, x1]
  refine zl_190.mpr (zqI_r.mpr ?_)
  simp only [↓zt_a2, x1, hci, hcin, true_and, eD, hl]
  refine zJ_go (fun (j : Int32 → zS → Prop) => j (zs_b (zs_lc X.2 g < 5)) (zt_S σ m N M)) ?_ ?_
  · simp only [↓zt_rc]
    refine zt_273 hm hs.1 (c := 3) (by omega) fun M1 k1 k2 => zqV_r.mpr ?_
    simp only [↓zt_rc]
    refine zt_275 hm k2 fun M2 k3 k4 => zqV_r.mpr ?_
    have k4 : zt_ps b L (zp_l1 b L g X) M2 := k4
    have hal := hD.all
    refine zg2 (fun q y s' => ∃ M3 S1 s1, s' = zt_S σ m N M3 ∧ y = nI s1 ∧ zt_pr M M3 ∧ zt_ps b L S1 M3 ∧ s1 < zs_all X.2 ∧ zp_ml b L X.2 q S1 s1 = zp_l2 b L g X ∧ (S1.2.1 = 0 → L < q + S1.1.2.1)) ?_ (q := 501) ⟨M2, zp_l1 b L g X, 0, rfl, rfl, k1.trans k3, k4, by omega, rfl, fun _ => by have := hs.1.1.1; omega⟩
    rintro rec q y s' ⟨M3, S1, s1, rfl, rfl, k5, k6, k7, k8, k9⟩ hrec
    have t2 : M3.1 32 = 2 ↔ S1.1.1 = 2 := k6.t 2 (by omega)
    have eD3 : M3.2.2.1 2 = X.2 := by rw [k5.2]; exact eD
    simp only [↓zt_g33, k6.e0]
    refine zJ_go (fun (j : zS → Prop) => ¬ (S1.2.1 = 0 ∧ S1.1.1 = 2) → j (zt_S σ m N M3)) ?_ ?_
    · intro hstop
      rw [zp_ml_stop hstop] at k8
      simp only [↓zt_rc]
      refine zt_279 hm k6 (c := 59) (by omega) fun M4 k10 k11 => zqV_r.mpr ?_
      have k12 : zt_ps b L (zp_l3 b L g X) M4 := by
        unfold zp_l3
        rw [← k8]
        exact k11
      have eD4 : M4.2.2.1 2 = X.2 := by rw [k10.2]; exact eD3
      simp only [↓zt_g33, k12.e0, zJ]
      refine ⟨fun hn => h M4 (zt_pw.pr (k5.trans k10)) ?_, fun hy => ?_⟩
      · unfold zp_list
        rw [if_neg hn]
        exact zt_px.mk k12 eD4
      · simp only [↓zt_g1]
        refine zl_190.mpr (zqI_r.mpr ?_)
        simp only [↓zt_a2, x1, hci, hcin, true_and, eD4, hl]
        refine zl_192.mpr (zqI_r.mpr ?_)
        have hlt : zs_lc X.2 g < 5 := by
          refine Classical.byContradiction fun hge => ?_
          have hbad : ¬ (zp_l1 b L g X).2.1 = 0 := by
            intro h9
            unfold zp_l1 at h9
            rw [zp_adv_e] at h9
            exact hge (zp_chk_e (by omega) h9).1
          have e2 : zp_l2 b L g X = (zp_l1 b L g X, 0) := zp_ml_stop (fun h9 => hbad h9.1) 501
          have e3 : (zp_l3 b L g X).2.1 = 0 := hy
          unfold zp_l3 zp_xs at e3
          rw [zp_adv_e] at e3
          have e4 := (zp_chk_e (by omega) e3).2.1
          rw [e2] at e4
          exact hbad e4
        have hcb2 : zs_cb g + zs_lc X.2 g < 61 := by
          unfold zs_cb
          split
          · omega
          · omega
        have hne : zs_ci g ≠ zs_cb g + zs_lc X.2 g := by
          unfold zs_ci zs_cb
          cases g
          · show 5 ≠ 56 + _
            omega
          · show 4 ≠ 51 + _
            omega
        rw [x3]
        simp only [↓zt_rc, ↓zt_g0, ↓zt_g1, ↓zt_g2, ↓zt_g3, ↓zt_g4, ↓zt_g5, ↓zt_g6, ↓zt_g7, ↓zt_g8, ↓zt_g9, ↓zt_g10, ↓zt_g11, ↓zt_g12, ↓zt_g13, ↓zt_g14, ↓zt_g15, ↓zt_g16, ↓zt_g17, ↓zt_g18, ↓zt_g19, ↓zt_g20, ↓zt_g21, ↓zt_g22, ↓zt_g23, ↓zt_g24, ↓zt_g25, ↓zt_g26, ↓zt_g27, ↓zt_g28, ↓zt_g29, ↓zt_g30, ↓zt_g31, ↓zt_g32, ↓zt_g33, ↓zt_g34, ↓zt_g35, ↓zt_g36, ↓zt_g37, ↓zt_g38, ↓zt_g39, ↓zt_g40, ↓zt_p4 hm, ↓zt_p5 hm, ↓zt_p6 hm, ↓zt_p15 hm, ↓zt_p21 hm, ↓zt_p22 hm, ↓zt_p23 hm, ↓zt_p26 hm, ↓zt_p28 hm, ↓zt_p29 hm, ↓zt_p30 hm, ↓zt_p31 hm, ↓zt_p32 hm, ↓zt_p33 hm, ↓zt_p34 hm, ↓zt_p35 hm, ↓zt_p36 hm, ↓zt_p40 hm, ↓zt_p19 hm, ↓zt_p20 hm, ↓zt_a1, ↓zt_a2, ↓zt_a3, ↓zt_a4, ↓zt_a5, ↓zt_a6, ↓zt_a7, ↓zt_a8, ↓zt_a9, ↓zt_a10, ↓zt_a11, ↓zt_a12, ↓zt_a13, ↓zt_a14, ↓zt_a15, ↓zt_a16, ↓zt_a17, ↓zt_a18, ↓zt_a19, ↓zt_a20, ↓zt_a21, ↓zt_s1 hm, ↓zt_s2 hm, ↓zt_s3 hm, ↓zt_s4 hm, ↓zt_s5 hm, ↓zt_s6 hm, ↓zt_s7 hm, ↓zt_s8 hm, ↓zt_s9 hm, ↓zt_s10 hm, ↓zt_s11 hm, ↓zt_s12 hm, ↓zt_s16 hm, ↓zt_s17 hm, ↓zt_s18 hm, ↓zt_s20 hm, ↓zt_s13 hm, ↓zt_s14 hm, ↓zt_s15 hm, ↓zt_s21 hm, ↓zt_l19, ↓zt_l17, forall_eq, ↓zqI_r, ↓zqL_r, ↓zqD_r, ↓zqF_r, ↓zqV_r, ↓zqR_r, ↓zqR_s, zboolb, zbool0, zbool1, true_and, and_true, nI_cl (show zs_cb g + zs_lc X.2 g < 2147483648 by omega)]
        refine ⟨nI_i hcb2 (by omega), ?_⟩
        refine zl_190.mpr (zqI_r.mpr ?_)
        have eu : va_up (M4.2.2.1 2) (zs_cb g + zs_lc X.2 g) (nI s1) (zs_ci g) = nI (zs_lc X.2 g) := by
          rw [va_up_ne _ _ hne, eD4]
          exact hl
        rw [x1]
        simp only [↓zt_rc, ↓zt_g0, ↓zt_g1, ↓zt_g2, ↓zt_g3, ↓zt_g4, ↓zt_g5, ↓zt_g6, ↓zt_g7, ↓zt_g8, ↓zt_g9, ↓zt_g10, ↓zt_g11, ↓zt_g12, ↓zt_g13, ↓zt_g14, ↓zt_g15, ↓zt_g16, ↓zt_g17, ↓zt_g18, ↓zt_g19, ↓zt_g20, ↓zt_g21, ↓zt_g22, ↓zt_g23, ↓zt_g24, ↓zt_g25, ↓zt_g26, ↓zt_g27, ↓zt_g28, ↓zt_g29, ↓zt_g30, ↓zt_g31, ↓zt_g32, ↓zt_g33, ↓zt_g34, ↓zt_g35, ↓zt_g36, ↓zt_g37, ↓zt_g38, ↓zt_g39, ↓zt_g40, ↓zt_p4 hm, ↓zt_p5 hm, ↓zt_p6 hm, ↓zt_p15 hm, ↓zt_p21 hm, ↓zt_p22 hm, ↓zt_p23 hm, ↓zt_p26 hm, ↓zt_p28 hm, ↓zt_p29 hm, ↓zt_p30 hm, ↓zt_p31 hm, ↓zt_p32 hm, ↓zt_p33 hm, ↓zt_p34 hm, ↓zt_p35 hm, ↓zt_p36 hm, ↓zt_p40 hm, ↓zt_p19 hm, ↓zt_p20 hm, ↓zt_a1, ↓zt_a2, ↓zt_a3, ↓zt_a4, ↓zt_a5, ↓zt_a6, ↓zt_a7, ↓zt_a8, ↓zt_a9, ↓zt_a10, ↓zt_a11, ↓zt_a12, ↓zt_a13, ↓zt_a14, ↓zt_a15, ↓zt_a16, ↓zt_a17, ↓zt_a18, ↓zt_a19, ↓zt_a20, ↓zt_a21, ↓zt_s1 hm, ↓zt_s2 hm, ↓zt_s3 hm, ↓zt_s4 hm, ↓zt_s5 hm, ↓zt_s6 hm, ↓zt_s7 hm, ↓zt_s8 hm, ↓zt_s9 hm, ↓zt_s10 hm, ↓zt_s11 hm, ↓zt_s12 hm, ↓zt_s16 hm, ↓zt_s17 hm, ↓zt_s18 hm, ↓zt_s20 hm, ↓zt_s13 hm, ↓zt_s14 hm, ↓zt_s15 hm, ↓zt_s21 hm, ↓zt_l19, ↓zt_l17, forall_eq, ↓zqI_r, ↓zqL_r, ↓zqD_r, ↓zqF_r, ↓zqV_r, ↓zqR_r, ↓zqR_s, zboolb, zbool0, zbool1, true_and, and_true, hci, hcin, true_and]
        rw [va_up_self, eu, nI_1]
        refine h _ (((zt_pw.pr (k5.trans k10)).trans zt_pw.a).trans zt_pw.a) ?_
        unfold zp_list
        rw [if_pos hy, ← k8, eD4]
        exact zt_px.mk k12.a.a rfl
    · intro j hj
      simp only [↓zt_g32, t2]
      refine ⟨fun hn => hj fun h9 => hn h9.1, fun hy => ⟨fun hn => hj fun h9 => hn h9.2, fun h2 => ?_⟩⟩
      simp only [↓zt_rc]
      refine zt_283 hm k6 eD3 hD k7 fun M4 k10 k11 => zqI_r.mpr ?_
      have hq := k9 hy
      have hto := k6.2.1.2.2.2.1 (by omega)
      have hto2 := k6.2.1.2.2.1
      obtain ⟨q', rfl⟩ : ∃ q', q = q' + 1 := ⟨q - 1, by omega⟩
      refine hrec q' _ _ (by omega) ⟨M4, _, _, rfl, rfl, k5.trans k10, k11, Nat.or_lt_two_pow k7 (zp_mo_lt hD), ?_, fun he => ?_⟩
      · rw [← k8]
        show _ = (if S1.2.1 = 0 ∧ S1.1.1 = 2 then zp_ml b L X.2 q' (zp_mem b L X.2 S1 s1) (s1 ||| zp_mo b X.2 S1) else (S1, s1))
        rw [if_pos ⟨hy, h2⟩]
      · have e1 := zp_mem_e he
        rw [e1.1]
        have := zp_adv_lt k6.2.1 (by omega) hy
        omega
  · intro j hj
    have c5 : (5 : Int32) ≤ nI (zs_lc X.2 g) ↔ 5 ≤ zs_lc X.2 g := nI_leI (a := 5) (by omega) (by omega)
    simp only [c5]
    refine ⟨fun h9 => ?_, fun h9 => ?_⟩
    · rw [zs_bf (by omega)] at hj
      exact hj
    · rw [zs_bt (by omega)] at hj
      exact hj
end ZPL
