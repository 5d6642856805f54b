/-! READING TEXTS: the whole text, in the reference -/
def zw (s : String) : List Nat := s.toList.map Char.toNat
theorem zs_ok_up {V : zs_V} (h : zs_ok V) {a : Nat} {x : Int32} (ha : (a = 1 ∧ ∃ c, c ≤ 200 ∧ x = nI c) ∨ (a = 2 ∧ ∃ c, c ≤ 200 ∧ x = nI c) ∨ (a = 3 ∧ (x = 0 ∨ x = 1))) : zs_ok (va_up V a x) := by
  have h3 : 1 ≤ a ∧ a ≤ 3 := by
    rcases ha with ⟨e, _⟩ | ⟨e, _⟩ | ⟨e, _⟩ <;> omega
  have hs : ∀ i, i ≠ a → va_up V a x i = V i := fun i hi => va_up_ne _ _ hi
  have en : zs_n (va_up V a x) = zs_n V := by
    unfold zs_n
    rw [hs 0 (by omega)]
  have eA : zs_all (va_up V a x) = zs_all V := by
    unfold zs_all
    rw [en]
  have hp : ∀ k f, zs_p (va_up V a x) k f = zs_p V k f := by
    intro k f
    unfold zs_p
    rw [hs _ (by omega)]
  obtain ⟨a1, a2, a3, a4, a5, a6, a7, a8, a9, a10⟩ := h
  refine ⟨?_, ?_, ?_, ?_, ?_, ?_, ?_, ?_, ?_, ?_⟩
  · rw [hs 0 (by omega)]; exact a1
  · rcases ha with ⟨rfl, h9⟩ | ⟨rfl, h9⟩ | ⟨rfl, h9⟩
    · rw [va_up_self]; exact h9
    · rw [hs 1 (by omega)]; exact a2
    · rw [hs 1 (by omega)]; exact a2
  · rcases ha with ⟨rfl, h9⟩ | ⟨rfl, h9⟩ | ⟨rfl, h9⟩
    · rw [hs 2 (by omega)]; exact a3
    · rw [va_up_self]; exact h9
    · rw [hs 2 (by omega)]; exact a3
  · rcases ha with ⟨rfl, h9⟩ | ⟨rfl, h9⟩ | ⟨rfl, h9⟩
    · rw [hs 3 (by omega)]; exact a4
    · rw [hs 3 (by omega)]; exact a4
    · rw [va_up_self]; exact h9
  · intro k hk
    rw [en] at hk
    rw [hp k 0]
    refine ⟨(a5 k hk).1, (a5 k hk).2.1, fun f hf1 hf2 => ?_⟩
    rw [hp k f]
    exact (a5 k hk).2.2 f hf1 hf2
  · intro g
    have e0 : va_up V a x (if g then 4 else 5) = V (if g then 4 else 5) := hs _ (by split <;> omega)
    have e2 : zs_lc (va_up V a x) g = zs_lc V g := by
      unfold zs_lc
      rw [e0]
    rw [e0, e2, eA]
    refine ⟨(a6 g).1, fun i hi => ?_⟩
    rw [hs _ (by split <;> omega)]
    exact (a6 g).2 i hi
  · rw [eA, hs 6 (by omega)]; exact a7
  · rw [eA, hs 7 (by omega)]; exact a8
  · rw [hs 8 (by omega)]; exact a9
  · rw [hs 9 (by omega)]; exact a10
theorem zp_rd_ok {b : Nat → Nat} {L : Nat} {X : zp_X} (h : zs_ok X.2) {i : Nat} (hi : i = 1 ∨ i = 2) : zs_ok (zp_rd b L X i 0 200).2 := by
  have hb := zp_nv_b (b := b) (L := L) (S := X.1) (show 0 ≤ 200 by omega)
  show zs_ok (va_up X.2 i (nI (zp_nv b L X.1 0 200)))
  exact zs_ok_up h (hi.imp (fun e => ⟨e, _, hb.2, rfl⟩) fun e => Or.inl ⟨e, _, hb.2, rfl⟩)
def zp_h2 (b : Nat → Nat) (L : Nat) (X : zp_X) : zp_X := zp_rd b L (zp_rd b L (zp_xw b L X.1 (zw "duel"), X.2) 1 0 200) 2 0 200
def zp_hd (b : Nat → Nat) (L : Nat) (X : zp_X) : zp_X := (zp_xs b L (zp_acc b L (zp_h2 b L X).1 (zw "friendly")) 59, va_up (zp_h2 b L X).2 3 (zs_b (zp_isw b (zp_h2 b L X).1 (zw "friendly") = true)))
theorem zp_hd_ok {b : Nat → Nat} {L : Nat} {X : zp_X} (h : zs_ok X.2) : zs_ok (zp_hd b L X).2 := by
  have h2 : zs_ok (zp_h2 b L X).2 := zp_rd_ok (zp_rd_ok (X := (zp_xw b L X.1 (zw "duel"), X.2)) h (Or.inl rfl)) (Or.inr rfl)
  show zs_ok (va_up (zp_h2 b L X).2 3 (zs_b (zp_isw b (zp_h2 b L X).1 (zw "friendly") = true)))
  exact zs_ok_up h2 (Or.inr (Or.inr ⟨rfl, zs_bb⟩))
def zp_il (b : Nat → Nat) (L : Nat) : Nat → zp_X → zp_X
  | 0, X => X
  | q + 1, X => if zp_isw b X.1 (zw "item") = true then zp_il b L q (zp_item b L X) else X
def zp_ll (b : Nat → Nat) (L : Nat) : Nat → zp_X → zp_X
  | 0, X => X
  | q + 1, X => if zp_isw b X.1 (zw "plan") = true ∨ zp_isw b X.1 (zw "answer") = true then zp_ll b L q (zp_list b L (zp_isw b X.1 (zw "plan")) X) else X
theorem zp_il_stop {b : Nat → Nat} {L : Nat} {X : zp_X} (h : ¬ zp_isw b X.1 (zw "item") = true) : ∀ q, zp_il b L q X = X
  | 0 => rfl
  | q + 1 => by
    unfold zp_il
    rw [if_neg h]
theorem zp_ll_stop {b : Nat → Nat} {L : Nat} {X : zp_X} (h : ¬ (zp_isw b X.1 (zw "plan") = true ∨ zp_isw b X.1 (zw "answer") = true)) : ∀ q, zp_ll b L q X = X
  | 0 => rfl
  | q + 1 => by
    unfold zp_ll
    rw [if_neg h]
def zp_end (S : zp_P) : zp_P := zp_chk S (¬ S.2.1 = 0 ∨ S.1.1 = 0) 1
def zp_a1 (b : Nat → Nat) (L : Nat) (X : zp_X) : zp_X := zp_il b L 501 (zp_hd b L X)
def zp_a2 (b : Nat → Nat) (L : Nat) (X : zp_X) : zp_X := zp_ll b L 501 (zp_a1 b L X)
/-- what a text says -/
def zp_all (b : Nat → Nat) (L : Nat) (X : zp_X) : zp_X := (zp_end (zp_a2 b L X).1, (zp_a2 b L X).2)
section ZPA
variable {G : zPg} {n : Nat} {σ : zS} {m : Nat} {N : Nat → Option Nat} {M M' M'' M0 : zt_M} {Q : zQ} {Y : zY} {V D : zs_V} {b : Nat → Nat} {L : Nat} {S : zp_P} {X : zp_X}
/-- the words, where the code names them -/
def zt_wd (G : zPg) (σ : zS) (m : Nat) (N : Nat → Option Nat) : Prop := ∀ M, zj_str (zt_S σ m N M) (G.2 19) (zw "duel") ∧ zj_str (zt_S σ m N M) (G.2 20) (zw "friendly") ∧ zj_str (zt_S σ m N M) (G.2 21) (zw "item") ∧ zj_str (zt_S σ m N M) (G.2 22) (zw "plan") ∧ zj_str (zt_S σ m N M) (G.2 23) (zw "answer") ∧ zj_str (zt_S σ m N M) (G.2 24) (zw "first") ∧ zj_str (zt_S σ m N M) (G.2 25) (zw "many") ∧ zj_str (zt_S σ m N M) (G.2 26) (zw "not") ∧ zj_str (zt_S σ m N M) (G.2 27) (zw "and") ∧ zj_str (zt_S σ m N M) (G.2 28) (zw "or")
theorem zt_270 (hm : G.1 ≤ m) (hw : zt_wd G σ m N) (hs : zt_px b L X M) (hD : zs_ok X.2) (h : ∀ M', zt_pw M M' → zt_px b L (zp_all b L X) M' → zs_ok (zp_all b L X).2 → Q none (zt_S σ m N M')) : zCall G (n + 7) 270 [.ref m] Q Y (zt_S σ m N M) := by
  have hL : L ≤ 500 := hs.1.1.1
  refine ze270 ⟨_, rfl, ?_⟩
  simp only [↓zt_rc]
  refine zt_271 hm hs.1 (hw M).1 fun M1 k1 k2 => zqV_r.mpr ?_
  have k3 : zt_px b L (zp_xw b L X.1 (zw "duel"), X.2) M1 := hs.pr k1 k2
  simp only [↓zt_rc, ↓zt_g1]
  refine zt_rd hm k3 (i := 1) (lo := 0) (hi := 200) (by omega) (by omega) (by omega) fun M2 k4 k5 => ?_
  simp only [↓zt_rc, ↓zt_g1]
  refine zt_rd hm k5 (i := 2) (lo := 0) (hi := 200) (by omega) (by omega) (by omega) fun M3 k6 k7 => ?_
  have k7 : zt_px b L (zp_h2 b L X) M3 := k7
  have kk3 : zt_pw M M3 := ((zt_pw.pr k1).trans k4).trans k6
  simp only [↓zt_rc, ↓zt_g1]
  refine zt_278 hm k7.1 (hw M3).2.1 fun M4 k8 k9 => zqI_r.mpr ?_
  have k10 : zt_px b L (zp_acc b L (zp_h2 b L X).1 (zw "friendly"), (zp_h2 b L X).2) M4 := k7.pr k8 k9
  refine zJ_go (fun (j : Int32 → zS → Prop) => j (zs_b (zp_isw b (zp_h2 b L X).1 (zw "friendly") = true)) (zt_S σ m N M4)) ?_ ?_
  · simp only [↓zt_rc, ↓zt_g0, ↓zt_g1, ↓zt_g2, ↓zt_g3, ↓zt_g4, ↓zt_g5, ↓zt_g6, ↓zt_g7, ↓zt_g8, ↓zt_g9, ↓zt_g10, ↓zt_g11, ↓zt_g12, ↓zt_g13, ↓zt_g14, ↓zt_g15, ↓zt_g16, ↓zt_g17, ↓zt_g18, ↓zt_g19, ↓zt_g20, ↓zt_g21, ↓zt_g22, ↓zt_g23, ↓zt_g24, ↓zt_g25, ↓zt_g26, ↓zt_g27, ↓zt_g28, ↓zt_g29, ↓zt_g30, ↓zt_g31, ↓zt_g32, ↓zt_g33, ↓zt_g34, ↓zt_g35, ↓zt_g36, ↓zt_g37, ↓zt_g38, ↓zt_g39, ↓zt_g40, ↓zt_p4 hm, ↓zt_p5 hm, ↓zt_p6 hm, ↓zt_p15 hm, ↓zt_p21 hm, ↓zt_p22 hm, ↓zt_p23 hm, ↓zt_p26 hm, ↓zt_p28 hm, ↓zt_p29 hm, ↓zt_p30 hm, ↓zt_p31 hm, ↓zt_p32 hm, ↓zt_p33 hm, ↓zt_p34 hm, ↓zt_p35 hm, ↓zt_p36 hm, ↓zt_p40 hm, ↓zt_p19 hm, ↓zt_p20 hm, ↓zt_a1, ↓zt_a2, ↓zt_a3, ↓zt_a4, ↓zt_a5, ↓zt_a6, ↓zt_a7, ↓zt_a8, ↓zt_a9, ↓zt_a10, ↓zt_a11, ↓zt_a12, ↓zt_a13, ↓zt_a14, ↓zt_a15, ↓zt_a16, ↓zt_a17, ↓zt_a18, ↓zt_a19, ↓zt_a20, ↓zt_a21, ↓zt_s1 hm, ↓zt_s2 hm, ↓zt_s3 hm, ↓zt_s4 hm, ↓zt_s5 hm, ↓zt_s6 hm, ↓zt_s7 hm, ↓zt_s8 hm, ↓zt_s9 hm, ↓zt_s10 hm, ↓zt_s11 hm, ↓zt_s12 hm, ↓zt_s16 hm, ↓zt_s17 hm, ↓zt_s18 hm, ↓zt_s20 hm, ↓zt_s13 hm, ↓zt_s14 hm, ↓zt_s15 hm, ↓zt_s21 hm, ↓zt_l19, ↓zt_l17, forall_eq, ↓zqI_r, ↓zqL_r, ↓zqD_r, ↓zqF_r, ↓zqV_r, ↓zqR_r, ↓zqR_s, zboolb, zbool0, zbool1, true_and, and_true, zi_0, zj_0, zi_1, zj_1, zi_2, zj_2, zi_3, zj_3, zi_4, zj_4, zi_5, zj_5, zi_6, zj_6, zi_7, zj_7, zi_8, zj_8, zi_9, zj_9, zi_10, zj_10, true_and, and_true]
    have eD : M4.2.2.1 2 = (zp_h2 b L X).2 := k10.2
    rw [eD]
    have k11 := k9.a (f := va_up (zp_h2 b L X).2 3 (zs_b (zp_isw b (zp_h2 b L X).1 (zw "friendly") = true)))
    refine zt_279 hm k11 (c := 59) (by omega) fun M5 k12 k13 => zqV_r.mpr ?_
    have k14 : zt_px b L (zp_hd b L X) M5 := zt_px.mk k13 (by rw [k12.2]; rfl)
    have kk5 : zt_pw M M5 := (kk3.trans (zt_pw.pr k8)).trans (zt_pw.a.trans (zt_pw.pr k12))
    refine zg1 (fun q s' => ∃ M6 X1, s' = zt_S σ m N M6 ∧ zt_pw M M6 ∧ zt_px b L X1 M6 ∧ zs_ok X1.2 ∧ zp_il b L q X1 = zp_a1 b L X ∧ (X1.1.2.1 = 0 → L < q + X1.1.1.2.1)) ?_ (q := 501) ⟨M5, zp_hd b L X, rfl, kk5, k14, zp_hd_ok hD, rfl, fun _ => by omega⟩
    rintro rec q s' ⟨M6, X1, rfl, j1, j2, j3, j4, j5⟩ hrec
    simp only [↓zt_rc]
    refine zt_272 j2.1 (hw M6).2.2.1 (zqI_r.mpr ?_)
    simp only [zs_b0, Classical.not_not]
    refine ⟨fun hno => ?_, fun hyes => ?_⟩
    · rw [zp_il_stop hno] at j4
      refine zg1 (fun q s' => ∃ M6 X1, s' = zt_S σ m N M6 ∧ zt_pw M M6 ∧ zt_px b L X1 M6 ∧ zs_ok X1.2 ∧ zp_ll b L q X1 = zp_a2 b L X ∧ (X1.1.2.1 = 0 → L < q + X1.1.1.2.1)) ?_ (q := 501) ⟨M6, X1, rfl, j1, j2, j3, by rw [j4]; rfl, fun _ => by omega⟩
      clear hrec hno j1 j2 j3 j4 j5
      clear rec q M6 X1
      rintro rec q s' ⟨M6, X1, rfl, j1, j2, j3, j4, j5⟩ hrec
      simp only [↓zt_rc]
      refine zt_272 j2.1 (hw M6).2.2.2.1 (zqI_r.mpr ?_)
      simp only [zs_b0, Classical.not_not]
      refine zJ_go (fun (j : zS → Prop) => (zp_isw b X1.1 (zw "plan") = true ∨ zp_isw b X1.1 (zw "answer") = true) → j (zt_S σ m N M6)) ?_ ?_
      · intro hyes
        simp only [↓zt_rc]
        refine zt_272 j2.1 (hw M6).2.2.2.1 (zqI_r.mpr ?_)
        simp only [↓zt_rc]
        have hb : zs_b (zp_isw b X1.1 (zw "plan") = true) = 0 ↔ zp_isw b X1.1 (zw "plan") = false := by
          rw [zs_b0, Bool.not_eq_true]
        refine zt_282 hm j2 j3 hb fun M7 i1 i2 => zqV_r.mpr ?_
        have hee : X1.1.2.1 = 0 ∧ X1.1.1.1 = 1 := by
          rcases hyes with h9 | h9
          · exact ⟨(zp_isw_iff.mp h9).1.1, (zp_isw_iff.mp h9).1.2.1⟩
          · exact ⟨(zp_isw_iff.mp h9).1.1, (zp_isw_iff.mp h9).1.2.1⟩
        have hq := j5 hee.1
        have t1 := j2.1.2.1.2.2.2.1 (by omega)
        have t2 := j2.1.2.1.2.2.1
        obtain ⟨q', rfl⟩ : ∃ q', q = q' + 1 := ⟨q - 1, by omega⟩
        refine hrec q' _ (by omega) ⟨M7, zp_list b L (zp_isw b X1.1 (zw "plan")) X1, rfl, j1.trans i1, i2, zp_list_ok j3, ?_, fun he => ?_⟩
        · rw [← j4]
          exact (if_pos hyes).symm
        · have := zp_list_go hL (g := zp_isw b X1.1 (zw "plan")) j2.1.2.1 (by omega) hee.1 he
          omega
      · intro j hj
        refine ⟨fun hp => hj (Or.inl hp), fun hnp => ?_⟩
        simp only [↓zt_rc]
        refine zt_272 j2.1 (hw M6).2.2.2.2.1 (zqI_r.mpr ?_)
        simp only [zs_b0, Classical.not_not]
        refine ⟨fun hna => ?_, fun hya => hj (Or.inr hya)⟩
        rw [zp_ll_stop (fun h9 => h9.elim hnp hna)] at j4
        simp only [↓zt_g33, j2.1.e0]
        refine zJ_go (fun (j : Int32 → zS → Prop) => j (zs_b (¬ X1.1.2.1 = 0 ∨ X1.1.1.1 = 0)) (zt_S σ m N M6)) ?_ ?_
        · simp only [↓zt_rc]
          refine zt_273 hm j2.1 (c := 1) (by omega) fun M7 i1 i2 => zqV_r.mpr ?_
          have e9 : zp_all b L X = (zp_end X1.1, X1.2) := by
            unfold zp_all
            rw [← j4]
          have i2 : zt_ps b L (zp_end X1.1) M7 := i2
          refine h M7 (j1.trans (zt_pw.pr i1)) ?_ ?_
          · rw [e9]
            exact zt_px.mk i2 (by rw [i1.2]; exact j2.2)
          · rw [e9]
            exact j3
        · intro j' hj'
          have t0 : M6.1 32 = 0 ↔ X1.1.1.1 = 0 := j2.1.t 0 (by omega)
          simp only [zJ, ↓zt_g32, t0]
          refine ⟨fun hn => ?_, fun hy => ⟨fun hno => ?_, fun hyes => ?_⟩⟩
          · rw [zs_bt (Or.inl hn)] at hj'
            exact hj'
          · rw [zs_bf (fun h9 => h9.elim (fun h8 => h8 hy) hno)] at hj'
            exact hj'
          · rw [zs_bt (Or.inr hyes)] at hj'
            exact hj'
    · simp only [↓zt_rc]
      have hn := j3.n0
      refine zt_281 hm j2 hn.1 hn.2 fun M7 i1 i2 => zqV_r.mpr ?_
      have hee : X1.1.2.1 = 0 ∧ X1.1.1.1 = 1 := ⟨(zp_isw_iff.mp hyes).1.1, (zp_isw_iff.mp hyes).1.2.1⟩
      have hq := j5 hee.1
      have t1 := j2.1.2.1.2.2.2.1 (by omega)
      have t2 := j2.1.2.1.2.2.1
      obtain ⟨q', rfl⟩ : ∃ q', q = q' + 1 := ⟨q - 1, by omega⟩
      refine hrec q' _ (by omega) ⟨M7, zp_item b L X1, rfl, j1.trans i1, i2, zp_item_ok j3, ?_, fun he => ?_⟩
      · rw [← j4]
        exact (if_pos hyes).symm
      · have := zp_item_go hL j2.1.2.1 (by omega) hee.1 he
        omega
  · intro j hj
    simp only [zs_b0, Classical.not_not]
    refine ⟨fun hn => ?_, fun hy => ?_⟩
    · rw [zs_bf hn] at hj
      exact hj
    · rw [zs_bt hy] at hj
      exact hj
end ZPA
