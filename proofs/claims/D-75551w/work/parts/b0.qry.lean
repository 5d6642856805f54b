/-! THE REFERENCE: queries: compiling a whole test -/
def zq_w (k : Nat) : Nat := if k = 1 then 1 else if k = 3 then 2 else 0
/-- enough turns -/
def zq_fu (L q k : Nat) (X : zq_X) : Prop := zq_w k < q ∧ (X.1.2.1 = 0 → 6 * (L - X.1.1.2.1) + zq_w k < q)
/-- fewer codes than bytes that were read -/
def zq_in (X : zq_X) : Prop := X.1.2.1 = 0 → X.2.2.length < X.1.1.2.1
section ZQB
variable {G : zPg} {n : Nat} {σ : zS} {m : Nat} {N : Nat → Option Nat} {M M' M'' M0 : zt_M} {Q : zQ} {Y : zY} {b : Nat → Nat} {L : Nat} {S : zp_P} {X X' : zq_X} {l : List Int32} {d : Nat}
theorem zq_in.pg {i j : Int} (h : zq_in X) (h' : zq_pg b L i j X X') (hj : 0 ≤ j) (ho : zp_ok b L X.1.1) : zq_in X' := fun e => by
  obtain ⟨e1, e2, e3⟩ := (h' ho).2 e
  have e4 := h e1
  omega
theorem zq_in.lt (h : zq_in (S, d, l)) (ho : zp_ok b L S.1) (hL : L ≤ 200) : S.2.1 = 0 → l.length < 200 := fun e => by
  have h1 : l.length < S.1.2.1 := h e
  have h2 := ho.2.1
  have h3 := ho.2.2.1
  omega
theorem zt_qx.d36 (h : zt_qx b L (S, d, l) M) {d' : Nat} : zt_qx b L (S, d', l) (M.sI 36 (nI d')) := by
  obtain ⟨h1, h2, h3, h4⟩ := h
  have h1 : zt_ps b L S M := h1
  have h3 : M.1 40 = nI l.length := h3
  refine zt_qx.mk (h1.fr (fun k a1 a2 => ?_) rfl) (va_up_self M.1 36 _) ⟨?_, h4⟩
  · show va_up M.1 36 (nI d') k = _
    rw [va_up_ne _ _ (by omega)]
  · show va_up M.1 36 (nI d') 40 = _
    rw [va_up_ne _ _ (by omega)]
    exact h3
theorem zt_qw.d36 {x : Int32} : zt_qw M (M.sI 36 x) := ⟨fun k hk => by show va_up M.1 36 x k = _; rw [va_up_ne _ _ (by omega)], rfl, fun _ _ => rfl, rfl⟩
/-- compiling, as a contract -/
def zt_cpl (G : zPg) (σ : zS) (m : Nat) (N : Nat → Option Nat) (b : Nat → Nat) (L q k K e : Nat) : Prop := ∀ (X : zq_X) (M : zt_M) (n : Nat) (Q : zQ) (Y : zY), zt_qx b L X M → X.2.1 ≤ 6 → zq_in X → zq_fu L q k X → 3 * (6 - X.2.1) + e ≤ n → (∀ M', zt_qw M M' → zt_qx b L (zq_go b L q k X) M' → Q none (zt_S σ m N M')) → zCall G n K [.ref m] Q Y (zt_S σ m N M)
theorem zq_enter_e (h : (zq_enter b L (S, d, l)).1.2.1 = 0) : d < 6 := by
  have h : (zp_adv b L (zp_chk S (d < 6) 3)).2.1 = 0 := h
  rw [zp_adv_e] at h
  exact (zp_chk_e (by omega) h).1
theorem zt_288c (hm : G.1 ≤ m) (hn : zt_nm σ m N) (hL : L ≤ 200) (hs : zt_qx b L (S, d, l) M) (hi : zq_in (S, d, l)) {K : zS → Prop} (h : ∀ M', zt_qw M M' → zt_qx b L (zq_cmp b L (S, d, l)) M' → K (zt_S σ m N M')) : zcl (zCall G (n + 6)) 291 [.ref m] Y (zt_S σ m N M) (zqV (fun s20 => zrc s20 (some m) 4 (fun a29 => zcl (zCall G (n + 6)) 280 [.ref a29, .int (60)] Y s20 (zqI (fun v26 s27 => zJ (fun (p33 : Int32) (s34 : zS) => zJ (fun (p36 : Int32) (s37 : zS) => zrc s37 (some m) 4 (fun a42 => zcl (zCall G (n + 6)) 273 [.ref a42, .int p36, .int (1)] Y s37 (zqV (fun s40 => zrc s40 (some m) 4 (fun a49 => zcl (zCall G (n + 6)) 275 [.ref a49] Y s40 (zqV (fun s47 => zrc s47 (some m) 4 (fun a56 => zcl (zCall G (n + 6)) 291 [.ref a56] Y s47 (zqV (fun s54 => zrc s54 (some m) 4 (fun a63 => zcl (zCall G (n + 6)) 290 [.ref a63, .int p33] Y s54 (zqV (fun s61 => K s61))))))))))))) (fun (j38 : Int32 → zS → Prop) => zJ (fun (s67 : zS) => j38 (1) s67) (fun (j68 : zS → Prop) => ((¬ p33 = (-22)) → j68 s34) ∧ ((p33 = (-22)) → zrc s34 (some m) 4 (fun a73 => zcl (zCall G (n + 6)) 280 [.ref a73, .int (62)] Y s34 (zqI (fun v70 s71 => ((v70 = 0) → j38 (0) s71) ∧ ((¬ v70 = 0) → j68 s71)))))))) (fun (j35 : Int32 → zS → Prop) => ((v26 = 0) → zrc s27 (some m) 4 (fun a82 => zcl (zCall G (n + 6)) 280 [.ref a82, .int (61)] Y s27 (zqI (fun v79 s80 => ((v79 = 0) → j35 (-22) s80) ∧ ((¬ v79 = 0) → j35 (-21) s80))))) ∧ ((¬ v26 = 0) → j35 (-20) s27)))))) ) := by
  have ho : zp_ok b L S.1 := hs.1.2.1
  have hL5 : L ≤ 500 := by omega
  have e : zq_cmp b L (S, d, l) = zq_emit (zq_val b L (zq_c2 b L (zq_val b L S d l).1) (zq_val b L S d l).2.1 (zq_val b L S d l).2.2) (zq_o b (zq_val b L S d l).1) := rfl
  rw [e] at h
  refine zt_291 hm hn hs (hi.lt ho hL) fun M1 k1 k2 => zqV_r.mpr ?_
  have g1 : zq_pg b L 1 0 (S, d, l) (zq_val b L S d l) := zq_val_pg hL5
  have hi1 := hi.pg g1 (by omega) ho
  generalize zq_val b L S d l = W at *
  obtain ⟨S1, d1, l1⟩ := W
  dsimp only at h
  have k3 : zt_ps b L S1 M1 := k2.1
  have ho1 : zp_ok b L S1.1 := k3.2.1
  simp only [↓zt_rc]
  refine zt_280 k3 (c := 60) (by omega) (zqI_r.mpr ?_)
  refine zJ_go (fun (j : Int32 → zS → Prop) => j (zq_o b S1) (zt_S σ m N M1)) ?_ ?_
  · refine zJ_go (fun (j : Int32 → zS → Prop) => j (zs_b (¬ zq_o b S1 = -22 ∨ zp_iss b S1 62 = true)) (zt_S σ m N M1)) ?_ ?_
    · simp only [↓zt_rc]
      refine zt_273 hm k3 (c := 1) (by omega) fun M2 a1 a2 => zqV_r.mpr ?_
      simp only [↓zt_rc]
      refine zt_275 hm a2 fun M3 a3 a4 => zqV_r.mpr ?_
      have a5 : zt_qx b L (zq_c2 b L S1, d1, l1) M3 := k2.prS (a1.trans a3) a4
      have g2 : zq_pg b L 1 1 (S1, d1, l1) (zq_c2 b L S1, d1, l1) := zq_c2_pg hL5
      have hi2 := hi1.pg g2 (by omega) ho1
      have ho2 : zp_ok b L (zq_c2 b L S1).1 := (g2 ho1).1
      simp only [↓zt_rc]
      refine zt_291 hm hn a5 (hi2.lt ho2 hL) fun M4 a6 a7 => zqV_r.mpr ?_
      have g3 : zq_pg b L 1 0 (zq_c2 b L S1, d1, l1) (zq_val b L (zq_c2 b L S1) d1 l1) := zq_val_pg hL5
      have hi3 := hi2.pg g3 (by omega) ho2
      generalize zq_val b L (zq_c2 b L S1) d1 l1 = W3 at *
      obtain ⟨S3, d3, l3⟩ := W3
      have a8 : zt_ps b L S3 M4 := a7.1
      simp only [↓zt_rc]
      exact zt_290 hm a7 (hi3.lt a8.2.1 hL) fun M5 a9 aA => zqV_r.mpr (h M5 ((((k1.trans (zt_qw.pr a1)).trans (zt_qw.pr a3)).trans a6).trans a9) aA)
    · intro j hj
      refine zJ_go (fun (j' : zS → Prop) => (¬ zq_o b S1 = -22 ∨ zp_iss b S1 62 = true) → j' (zt_S σ m N M1)) ?_ ?_
      · intro hc
        rw [zs_bt hc] at hj
        exact hj
      · intro j' hj'
        refine ⟨fun h9 => hj' (Or.inl h9), fun h9 => ?_⟩
        simp only [↓zt_rc]
        refine zt_280 k3 (c := 62) (by omega) (zqI_r.mpr ?_)
        simp only [zs_b0, Classical.not_not]
        refine ⟨fun h8 => ?_, fun h8 => hj' (Or.inr h8)⟩
        rw [zs_bf (fun h7 => h7.elim (fun h6 => h6 h9) h8)] at hj
        exact hj
  · intro j hj
    simp only [zs_b0, Classical.not_not]
    refine ⟨fun h9 => ?_, fun h9 => ?_⟩
    · simp only [↓zt_rc]
      refine zt_280 k3 (c := 61) (by omega) (zqI_r.mpr ?_)
      simp only [zs_b0, Classical.not_not]
      refine ⟨fun h8 => ?_, fun h8 => ?_⟩
      · have e : zq_o b S1 = -22 := by unfold zq_o; rw [if_neg h9, if_neg h8]
        rw [e] at hj
        exact hj
      · have e : zq_o b S1 = -21 := by unfold zq_o; rw [if_neg h9, if_pos h8]
        rw [e] at hj
        exact hj
    · have e : zq_o b S1 = -20 := by unfold zq_o; rw [if_pos h9]
      rw [e] at hj
      exact hj
theorem zt_288 (hm : G.1 ≤ m) (hw : zt_wd G σ m N) (hn : zt_nm σ m N) (hL : L ≤ 200) {q : Nat} (h0 : zt_cpl G σ m N b L q 0 288 7) (h3 : zt_cpl G σ m N b L q 3 286 9) : zt_cpl G σ m N b L (q + 1) 0 288 7 := by
  rintro ⟨S, d, l⟩ M n Q Y hs hd hi hf hn7 h
  have hd : d ≤ 6 := hd
  have hn7 : 3 * (6 - d) + 7 ≤ n := hn7
  obtain ⟨n, rfl⟩ : ∃ n', n = n' + 7 := ⟨n - 7, by omega⟩
  have h1 : zt_ps b L S M := hs.1
  have ho : zp_ok b L S.1 := h1.2.1
  have hL5 : L ≤ 500 := by omega
  have hf2 : S.2.1 = 0 → 6 * (L - S.1.2.1) + 0 < q + 1 := hf.2
  obtain ⟨_, _, _, _, _, _, _, w7, _⟩ := hw M
  rw [zq_go_0] at h
  have h : ∀ M', zt_qw M M' → zt_qx b L (if zp_isw b S (zw "not") = true then zq_nt (zq_if (zq_enter b L (S, d, l)) (zq_go b L q 0 (zq_enter b L (S, d, l)))) else if zp_iss b S 40 = true then zq_pn b L (zq_if (zq_enter b L (S, d, l)) (zq_go b L q 3 (zq_enter b L (S, d, l)))) else zq_cmp b L (S, d, l)) M' → Q none (zt_S σ m N M') := h
  refine ze288 ⟨_, rfl, ?_⟩
  simp only [↓zt_rc]
  refine zt_272 h1 w7 (zqI_r.mpr ?_)
  refine zJ_go (fun (j : zS → Prop) => ∀ M', zt_qw M M' → zt_qx b L (if zp_isw b S (zw "not") = true then zq_nt (zq_if (zq_enter b L (S, d, l)) (zq_go b L q 0 (zq_enter b L (S, d, l)))) else if zp_iss b S 40 = true then zq_pn b L (zq_if (zq_enter b L (S, d, l)) (zq_go b L q 3 (zq_enter b L (S, d, l)))) else zq_cmp b L (S, d, l)) M' → j (zt_S σ m N M')) (fun M' a1 a2 => h M' a1 a2) ?_
  intro j hj
  clear h
  have ed : (zq_enter b L (S, d, l)).2.1 = d + 1 := rfl
  have ee : (zq_enter b L (S, d, l)).1.2.1 = 0 → d < 6 := zq_enter_e
  simp only [zs_b0, Classical.not_not, ↓zt_rc]
  refine ⟨fun hnw => ?_, fun hyw => ?_⟩
  · rw [if_neg hnw] at hj
    refine zt_280 h1 (c := 40) (by omega) (zqI_r.mpr ?_)
    simp only [zs_b0, Classical.not_not, ↓zt_rc]
    refine ⟨fun hns => ?_, fun hys => ?_⟩
    · rw [if_neg hns] at hj
      have := zt_288c (n := n) (Y := Y) (σ := σ) hm hn hL hs hi hj
      exact this
    · rw [if_pos hys] at hj
      have g1 : zq_pg b L 1 1 (S, d, l) (zq_enter b L (S, d, l)) := zq_enter_pg hL5 fun _ => (zq_iss_t hys).1
      have hi1 := hi.pg g1 (by omega) ho
      refine zt_289 hm hs (by omega) fun M1 k1 k2 => zqV_r.mpr ?_
      generalize zq_enter b L (S, d, l) = X1 at *
      simp only [↓zt_g33, k2.1.e0]
      refine zJ_go (fun (j' : zS → Prop) => ∀ M2, zt_qw M M2 → zt_qx b L (zq_if X1 (zq_go b L q 3 X1)) M2 → j' (zt_S σ m N M2)) ?_ ?_
      · intro M2 a1 a2
        have hd2 : (zq_if X1 (zq_go b L q 3 X1)).2.1 = X1.2.1 := zq_if_d (zq_go_d q 3 X1)
        generalize zq_if X1 (zq_go b L q 3 X1) = W at *
        obtain ⟨S2, d2, l2⟩ := W
        have hd2 : d2 = X1.2.1 := hd2
        have a3 : zt_ps b L S2 M2 := a2.1
        have a4 : zt_qx b L (S2, d2, l2) M2 := a2
        simp only [↓zt_rc]
        refine zt_279 hm a3 (c := 41) (by omega) fun M3 a5 a6 => zqV_r.mpr ?_
        have a7 : zt_qx b L (zp_xs b L S2 41, d2, l2) M3 := a4.prS a5 a6
        have a8 : M3.1 36 = nI d2 := a7.2.1
        have e1 : nI d2 - 1 = nI d := by
          rw [hd2, ed]
          exact nI_pred d
        simp only [↓zt_rc, ↓zt_g0, ↓zt_g1, ↓zt_g2, ↓zt_g3, ↓zt_g4, ↓zt_g5, ↓zt_g6, ↓zt_g7, ↓zt_g8, ↓zt_g9, ↓zt_g10, ↓zt_g11, ↓zt_g12, ↓zt_g13, ↓zt_g14, ↓zt_g15, ↓zt_g16, ↓zt_g17, ↓zt_g18, ↓zt_g19, ↓zt_g20, ↓zt_g21, ↓zt_g22, ↓zt_g23, ↓zt_g24, ↓zt_g25, ↓zt_g26, ↓zt_g27, ↓zt_g28, ↓zt_g29, ↓zt_g30, ↓zt_g31, ↓zt_g32, ↓zt_g33, ↓zt_g34, ↓zt_g35, ↓zt_g36, ↓zt_g37, ↓zt_g38, ↓zt_g39, ↓zt_g40, ↓zt_p4 hm, ↓zt_p5 hm, ↓zt_p6 hm, ↓zt_p15 hm, ↓zt_p21 hm, ↓zt_p22 hm, ↓zt_p23 hm, ↓zt_p26 hm, ↓zt_p28 hm, ↓zt_p29 hm, ↓zt_p30 hm, ↓zt_p31 hm, ↓zt_p32 hm, ↓zt_p33 hm, ↓zt_p34 hm, ↓zt_p35 hm, ↓zt_p36 hm, ↓zt_p40 hm, ↓zt_p19 hm, ↓zt_p20 hm, ↓zt_a1, ↓zt_a2, ↓zt_a3, ↓zt_a4, ↓zt_a5, ↓zt_a6, ↓zt_a7, ↓zt_a8, ↓zt_a9, ↓zt_a10, ↓zt_a11, ↓zt_a12, ↓zt_a13, ↓zt_a14, ↓zt_a15, ↓zt_a16, ↓zt_a17, ↓zt_a18, ↓zt_a19, ↓zt_a20, ↓zt_a21, ↓zt_s1 hm, ↓zt_s2 hm, ↓zt_s3 hm, ↓zt_s4 hm, ↓zt_s5 hm, ↓zt_s6 hm, ↓zt_s7 hm, ↓zt_s8 hm, ↓zt_s9 hm, ↓zt_s10 hm, ↓zt_s11 hm, ↓zt_s12 hm, ↓zt_s16 hm, ↓zt_s17 hm, ↓zt_s18 hm, ↓zt_s20 hm, ↓zt_s13 hm, ↓zt_s14 hm, ↓zt_s15 hm, ↓zt_s21 hm, ↓zt_l19, ↓zt_l17, forall_eq, ↓zqI_r, ↓zqL_r, ↓zqD_r, ↓zqF_r, ↓zqV_r, ↓zqR_r, ↓zqR_s, zboolb, zbool0, zbool1, true_and, and_true, a8, e1]
        refine hj _ ((a1.trans (zt_qw.pr a5)).trans zt_qw.d36) ?_
        have e2 : zq_pn b L (S2, d2, l2) = (zp_xs b L S2 41, d, l2) := by
          show (zp_xs b L S2 41, d2 - 1, l2) = _
          rw [hd2, ed]
          rfl
        rw [e2]
        exact a7.d36
      · intro j' hj'
        refine ⟨fun hn0 => hj' M1 k1 ?_, fun hy => ?_⟩
        · have e : zq_if X1 (zq_go b L q 3 X1) = X1 := if_neg hn0
          rw [e]
          exact k2
        · have hd6 := ee hy
          have hp := (g1 ho).2 hy
          have hp2 : (S.1.2.1 : Int) + 1 ≤ X1.1.1.2.1 := hp.2.1
          have ho1 := (g1 ho).1
          have ho2 := ho1.2.1
          have ho3 := ho1.2.2.1
          have hq := hf2 hp.1
          simp only [↓zt_rc]
          refine h3 X1 M1 (n + 6) _ _ k2 (by omega) hi1 ⟨?_, fun _ => ?_⟩ (by omega) fun M2 a1 a2 => zqV_r.mpr (hj' M2 (k1.trans a1) ?_)
          · show 2 < q
            omega
          · show 6 * (L - X1.1.1.2.1) + 2 < q
            omega
          · have e : zq_if X1 (zq_go b L q 3 X1) = zq_go b L q 3 X1 := if_pos hy
            rw [e]
            exact a2
  · rw [if_pos hyw] at hj
    have g1 : zq_pg b L 1 1 (S, d, l) (zq_enter b L (S, d, l)) := zq_enter_pg hL5 fun _ => (zq_isw_t hyw).1
    have hi1 := hi.pg g1 (by omega) ho
    refine zt_289 hm hs (by omega) fun M1 k1 k2 => zqV_r.mpr ?_
    generalize zq_enter b L (S, d, l) = X1 at *
    simp only [↓zt_g33, k2.1.e0]
    refine zJ_go (fun (j' : zS → Prop) => ∀ M2, zt_qw M M2 → zt_qx b L (zq_if X1 (zq_go b L q 0 X1)) M2 → j' (zt_S σ m N M2)) ?_ ?_
    · intro M2 a1 a2
      have hd2 : (zq_if X1 (zq_go b L q 0 X1)).2.1 = X1.2.1 := zq_if_d (zq_go_d q 0 X1)
      have hi2 : zq_in (zq_if X1 (zq_go b L q 0 X1)) := hi1.pg (zq_if_pg (zq_go_pg hL5 q 0 X1) zq_pg.rfl') (by omega) (g1 ho).1
      generalize zq_if X1 (zq_go b L q 0 X1) = W at *
      obtain ⟨S2, d2, l2⟩ := W
      have hd2 : d2 = X1.2.1 := hd2
      have a3 : zt_ps b L S2 M2 := a2.1
      have a4 : zt_qx b L (S2, d2, l2) M2 := a2
      simp only [↓zt_rc]
      refine zt_290 hm a4 (hi2.lt a3.2.1 hL) fun M3 a5 a6 => zqV_r.mpr ?_
      have e3 : (zq_emit (S2, d2, l2) (-23)).2.1 = d2 := zq_emit_d
      have e2 : zq_nt (S2, d2, l2) = ((zq_emit (S2, d2, l2) (-23)).1, (zq_emit (S2, d2, l2) (-23)).2.1 - 1, (zq_emit (S2, d2, l2) (-23)).2.2) := rfl
      rw [e2] at hj
      generalize zq_emit (S2, d2, l2) (-23) = W3 at *
      obtain ⟨S3, d3, l3⟩ := W3
      have e3 : d3 = d2 := e3
      have a6 : zt_qx b L (S3, d3, l3) M3 := a6
      have a8 : M3.1 36 = nI d3 := a6.2.1
      have e1 : nI d3 - 1 = nI d := by
        rw [e3, hd2, ed]
        exact nI_pred d
      simp only [↓zt_rc, ↓zt_g0, ↓zt_g1, ↓zt_g2, ↓zt_g3, ↓zt_g4, ↓zt_g5, ↓zt_g6, ↓zt_g7, ↓zt_g8, ↓zt_g9, ↓zt_g10, ↓zt_g11, ↓zt_g12, ↓zt_g13, ↓zt_g14, ↓zt_g15, ↓zt_g16, ↓zt_g17, ↓zt_g18, ↓zt_g19, ↓zt_g20, ↓zt_g21, ↓zt_g22, ↓zt_g23, ↓zt_g24, ↓zt_g25, ↓zt_g26, ↓zt_g27, ↓zt_g28, ↓zt_g29, ↓zt_g30, ↓zt_g31, ↓zt_g32, ↓zt_g33, ↓zt_g34, ↓zt_g35, ↓zt_g36, ↓zt_g37, ↓zt_g38, ↓zt_g39, ↓zt_g40, ↓zt_p4 hm, ↓zt_p5 hm, ↓zt_p6 hm, ↓zt_p15 hm, ↓zt_p21 hm, ↓zt_p22 hm, ↓zt_p23 hm, ↓zt_p26 hm, ↓zt_p28 hm, ↓zt_p29 hm, ↓zt_p30 hm, ↓zt_p31 hm, ↓zt_p32 hm, ↓zt_p33 hm, ↓zt_p34 hm, ↓zt_p35 hm, ↓zt_p36 hm, ↓zt_p40 hm, ↓zt_p19 hm, ↓zt_p20 hm, ↓zt_a1, ↓zt_a2, ↓zt_a3, ↓zt_a4, ↓zt_a5, ↓zt_a6, ↓zt_a7, ↓zt_a8, ↓zt_a9, ↓zt_a10, ↓zt_a11, ↓zt_a12, ↓zt_a13, ↓zt_a14, ↓zt_a15, ↓zt_a16, ↓zt_a17, ↓zt_a18, ↓zt_a19, ↓zt_a20, ↓zt_a21, ↓zt_s1 hm, ↓zt_s2 hm, ↓zt_s3 hm, ↓zt_s4 hm, ↓zt_s5 hm, ↓zt_s6 hm, ↓zt_s7 hm, ↓zt_s8 hm, ↓zt_s9 hm, ↓zt_s10 hm, ↓zt_s11 hm, ↓zt_s12 hm, ↓zt_s16 hm, ↓zt_s17 hm, ↓zt_s18 hm, ↓zt_s20 hm, ↓zt_s13 hm, ↓zt_s14 hm, ↓zt_s15 hm, ↓zt_s21 hm, ↓zt_l19, ↓zt_l17, forall_eq, ↓zqI_r, ↓zqL_r, ↓zqD_r, ↓zqF_r, ↓zqV_r, ↓zqR_r, ↓zqR_s, zboolb, zbool0, zbool1, true_and, and_true, a8, e1]
      refine hj _ ((a1.trans a5).trans zt_qw.d36) ?_
      have e4 : d3 - 1 = d := by omega
      show zt_qx b L (S3, d3 - 1, l3) _
      rw [e4]
      exact a6.d36
    · intro j' hj'
      refine ⟨fun hn0 => hj' M1 k1 ?_, fun hy => ?_⟩
      · have e : zq_if X1 (zq_go b L q 0 X1) = X1 := if_neg hn0
        rw [e]
        exact k2
      · have hd6 := ee hy
        have hp := (g1 ho).2 hy
        have hp2 : (S.1.2.1 : Int) + 1 ≤ X1.1.1.2.1 := hp.2.1
        have ho1 := (g1 ho).1
        have ho2 := ho1.2.1
        have ho3 := ho1.2.2.1
        have hq := hf2 hp.1
        simp only [↓zt_rc]
        refine h0 X1 M1 (n + 6) _ _ k2 (by omega) hi1 ⟨?_, fun _ => ?_⟩ (by omega) fun M2 a1 a2 => zqV_r.mpr (hj' M2 (k1.trans a1) ?_)
        · show 0 < q
          omega
        · show 6 * (L - X1.1.1.2.1) + 0 < q
          omega
        · have e : zq_if X1 (zq_go b L q 0 X1) = zq_go b L q 0 X1 := if_pos hy
          rw [e]
          exact a2
theorem zt_loopq (hm : G.1 ≤ m) (hL : L ≤ 200) {a : Nat} {w : String} {c : Int32} {k k' K e q : Nat} (hk : zq_w k ≤ 1) (hk' : zq_w k' = 0) (hw : ∀ M, zj_str (zt_S σ m N M) a (zw w)) (hgo : ∀ q X, zq_go b L (q + 1) k' X = if zp_isw b X.1 (zw w) = true then zq_go b L q k' (zq_emit (zq_go b L q k (zq_ac b L X w)) c) else X) (hI : ∀ r, r ≤ q → zt_cpl G σ m N b L r k K e) (hn6 : 6 ≤ n) {X0 : zq_X} (hd : X0.2.1 ≤ 6) (hne : 3 * (6 - X0.2.1) + e ≤ n) (hs : zt_qx b L X0 M0) (hi : zq_in X0) (hf : zq_fu L q k' X0) (h : ∀ M', zt_qw M0 M' → zt_qx b L (zq_go b L q k' X0) M' → Q none (zt_S σ m N M')) : ∃ n', zIt (fun _ => False) (fun (rec9 : zS → Prop) (s8 : zS) => zrc s8 (some m) 4 (fun a13 => zcl (zCall G n) 278 [.ref a13, va_rf (some a)] Y s8 (zqI (fun v10 s11 => ((v10 = 0) → Q none s11) ∧ ((¬ v10 = 0) → zrc s11 (some m) 4 (fun a21 => zcl (zCall G n) K [.ref a21] Y s11 (zqV (fun s19 => zrc s19 (some m) 4 (fun a28 => zcl (zCall G n) 290 [.ref a28, .int c] Y s19 (zqV (fun s26 => rec9 s26))))))))))) n' (zt_S σ m N M0) := by
  have hL5 : L ≤ 500 := by omega
  refine zg1 (fun r s' => ∃ M1 X1, s' = zt_S σ m N M1 ∧ zt_qw M0 M1 ∧ zt_qx b L X1 M1 ∧ zq_in X1 ∧ X1.2.1 = X0.2.1 ∧ zq_fu L r k' X1 ∧ zq_go b L r k' X1 = zq_go b L q k' X0 ∧ r ≤ q) ?_ ⟨M0, X0, rfl, zt_qw.rfl', hs, hi, rfl, hf, rfl, Nat.le_refl _⟩
  rintro rec r s' ⟨M1, X1, rfl, b1, b2, b3, b4, b5, b6, b7⟩ hrec
  obtain ⟨n, rfl⟩ : ∃ n', n = n' + 6 := ⟨n - 6, by omega⟩
  obtain ⟨r, rfl⟩ : ∃ r', r = r' + 1 := ⟨r - 1, by have := b5.1; omega⟩
  have p1 : zt_ps b L X1.1 M1 := b2.1
  have ho : zp_ok b L X1.1.1 := p1.2.1
  rw [hgo] at b6
  simp only [↓zt_rc]
  refine zt_278 hm p1 (hw M1) fun M2 a1 a2 => zqI_r.mpr ?_
  simp only [zs_b0, Classical.not_not, ↓zt_rc]
  refine ⟨fun hnw => ?_, fun hyw => ?_⟩
  · rw [if_neg hnw] at b6
    refine h M2 (b1.trans (zt_qw.pr a1)) ?_
    rw [← b6]
    have e : zp_acc b L X1.1 (zw w) = X1.1 := if_neg hnw
    rw [e] at a2
    obtain ⟨S1, d1, l1⟩ := X1
    exact b2.prS a1 a2
  · rw [if_pos hyw] at b6
    have a3 : zt_qx b L (zq_ac b L X1 w) M2 := by
      obtain ⟨S1, d1, l1⟩ := X1
      exact b2.prS a1 a2
    have g1 := zq_ac_pg (b := b) hL5 hyw
    have hi1 := b3.pg g1 (by omega) ho
    have ho1 := (g1 ho).1
    have hd1 : (zq_ac b L X1 w).2.1 = X0.2.1 := b4
    have hp2 : zp_ok b L (zq_ac b L X1 w).1.1 := ho1
    have hfu : zq_fu L r k (zq_ac b L X1 w) := by
      have q1 := b5.2 (zq_isw_t hyw).2
      have q2 := ho1.2.1
      have q3 := ho1.2.2.1
      have q4 := ho.2.1
      have q5 := ho.2.2.1
      have q6 := ho.2.2.2.1 (zq_isw_t hyw).1
      have q7 : 0 < L - X1.1.1.2.1 := by omega
      refine ⟨by omega, fun he => ?_⟩
      have q8 := ((g1 ho).2 he).2.1
      omega
    generalize zq_ac b L X1 w = X2 at *
    refine hI r (by omega) X2 M2 (n + 6) _ _ a3 (by omega) hi1 hfu (by omega) fun M3 a4 a5 => zqV_r.mpr ?_
    have g2 := zq_go_pg (b := b) hL5 r k X2
    have hi2 := hi1.pg g2 (by omega) ho1
    have hd2 : (zq_go b L r k X2).2.1 = X2.2.1 := zq_go_d r k X2
    have g3 := g1.trans g2
    generalize zq_go b L r k X2 = X3 at *
    obtain ⟨S3, d3, l3⟩ := X3
    have a6 : zt_ps b L S3 M3 := a5.1
    simp only [↓zt_rc]
    refine zt_290 hm a5 (hi2.lt a6.2.1 hL) fun M4 a7 a8 => zqV_r.mpr ?_
    have g4 : zq_pg b L (1 + 0 + 0) (1 + 0 + (-1)) X1 (zq_emit (S3, d3, l3) c) := g3.trans zq_pg.emit
    have hd4 : (zq_emit (S3, d3, l3) c).2.1 = d3 := zq_emit_d
    have hi4 := b3.pg g4 (by omega) ho
    generalize zq_emit (S3, d3, l3) c = X4 at *
    refine hrec r _ (Nat.lt_succ_self r) ⟨M4, X4, rfl, ((b1.trans (zt_qw.pr a1)).trans a4).trans a7, a8, hi4, ?_, ⟨?_, fun he => ?_⟩, b6, by omega⟩
    · have hd2 : d3 = X2.2.1 := hd2
      omega
    · have := hfu.1
      omega
    · have q1 := b5.2 (zq_isw_t hyw).2
      have q8 := ((g4 ho).2 he).2.1
      have q9 := (g4 ho).1.2.1
      have q10 := (g4 ho).1.2.2.1
      omega
theorem zt_287 (hm : G.1 ≤ m) (hw : zt_wd G σ m N) (hL : L ≤ 200) {q : Nat} (h0 : ∀ r, r ≤ q → zt_cpl G σ m N b L r 0 288 7) : zt_cpl G σ m N b L (q + 1) 1 287 8 := by
  intro X M n Q Y hs hd hi hf hn8 h
  obtain ⟨n, rfl⟩ : ∃ n', n = n' + 1 := ⟨n - 1, by omega⟩
  have hL5 : L ≤ 500 := by omega
  have ho : zp_ok b L X.1.1 := hs.1.2.1
  have f1 : 1 < q + 1 := hf.1
  have f2 : X.1.2.1 = 0 → 6 * (L - X.1.1.2.1) + 1 < q + 1 := hf.2
  rw [zq_go_1] at h
  refine ze287 ⟨_, rfl, ?_⟩
  simp only [↓zt_rc]
  refine h0 q (Nat.le_refl _) X M n _ _ hs hd hi ⟨?_, fun he => ?_⟩ (by omega) fun M1 k1 k2 => zqV_r.mpr ?_
  · show 0 < q
    omega
  · show 6 * (L - X.1.1.2.1) + 0 < q
    have := f2 he
    omega
  have g1 := zq_go_pg (b := b) hL5 q 0 X
  have hd1 : (zq_go b L q 0 X).2.1 = X.2.1 := zq_go_d q 0 X
  have hi1 := hi.pg g1 (by omega) ho
  generalize zq_go b L q 0 X = X1 at *
  refine zt_loopq (M0 := M1) (k := 0) (k' := 2) (K := 288) (e := 7) (q := q) (w := "and") hm hL (by decide) (by decide) (fun M => ?_) (fun q X => zq_go_2) h0 (by omega) (X0 := X1) (by omega) (by omega) k2 hi1 ⟨?_, fun he => ?_⟩ fun M' a1 a2 => h M' (k1.trans a1) a2
  · obtain ⟨_, _, _, _, _, _, _, _, w8, _⟩ := hw M
    exact w8
  · show 0 < q
    omega
  · show 6 * (L - X1.1.1.2.1) + 0 < q
    have q1 := (g1 ho).2 he
    have := f2 q1.1
    have := q1.2.1
    omega
theorem zt_286 (hm : G.1 ≤ m) (hw : zt_wd G σ m N) (hL : L ≤ 200) {q : Nat} (h0 : ∀ r, r ≤ q → zt_cpl G σ m N b L r 1 287 8) : zt_cpl G σ m N b L (q + 1) 3 286 9 := by
  intro X M n Q Y hs hd hi hf hn8 h
  obtain ⟨n, rfl⟩ : ∃ n', n = n' + 1 := ⟨n - 1, by omega⟩
  have hL5 : L ≤ 500 := by omega
  have ho : zp_ok b L X.1.1 := hs.1.2.1
  have f1 : 2 < q + 1 := hf.1
  have f2 : X.1.2.1 = 0 → 6 * (L - X.1.1.2.1) + 2 < q + 1 := hf.2
  rw [zq_go_3] at h
  refine ze286 ⟨_, rfl, ?_⟩
  simp only [↓zt_rc]
  refine h0 q (Nat.le_refl _) X M n _ _ hs hd hi ⟨?_, fun he => ?_⟩ (by omega) fun M1 k1 k2 => zqV_r.mpr ?_
  · show 1 < q
    omega
  · show 6 * (L - X.1.1.2.1) + 1 < q
    have := f2 he
    omega
  have g1 := zq_go_pg (b := b) hL5 q 1 X
  have hd1 : (zq_go b L q 1 X).2.1 = X.2.1 := zq_go_d q 1 X
  have hi1 := hi.pg g1 (by omega) ho
  generalize zq_go b L q 1 X = X1 at *
  refine zt_loopq (M0 := M1) (k := 1) (k' := 4) (K := 287) (e := 8) (q := q) (w := "or") hm hL (by decide) (by decide) (fun M => ?_) (fun q X => zq_go_4) h0 (by omega) (X0 := X1) (by omega) (by omega) k2 hi1 ⟨?_, fun he => ?_⟩ fun M' a1 a2 => h M' (k1.trans a1) a2
  · obtain ⟨_, _, _, _, _, _, _, _, _, w9⟩ := hw M
    exact w9
  · show 0 < q
    omega
  · show 6 * (L - X1.1.1.2.1) + 0 < q
    have q1 := (g1 ho).2 he
    have := f2 q1.1
    have := q1.2.1
    omega
theorem zt_comp (hm : G.1 ≤ m) (hw : zt_wd G σ m N) (hn : zt_nm σ m N) (hL : L ≤ 200) : ∀ q, zt_cpl G σ m N b L q 0 288 7 ∧ zt_cpl G σ m N b L q 1 287 8 ∧ zt_cpl G σ m N b L q 3 286 9 := by
  intro q
  induction q using Nat.strongRecOn with
  | _ q ih =>
    cases q with
    | zero => exact ⟨fun X M n Q Y _ _ _ hf => absurd hf.1 (Nat.not_lt_zero _), fun X M n Q Y _ _ _ hf => absurd hf.1 (Nat.not_lt_zero _), fun X M n Q Y _ _ _ hf => absurd hf.1 (Nat.not_lt_zero _)⟩
    | succ q => exact ⟨zt_288 hm hw hn hL (ih q (Nat.lt_succ_self _)).1 (ih q (Nat.lt_succ_self _)).2.2, zt_287 hm hw hL fun r hr => (ih r (by omega)).1, zt_286 hm hw hL fun r hr => (ih r (by omega)).2.1⟩
end ZQB
