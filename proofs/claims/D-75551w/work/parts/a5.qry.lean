/-! THE REFERENCE: queries: codes -/
/-- where a query's text is: reading, how many are open, the codes -/
abbrev zq_X : Type := zp_P × Nat × List Int32
def zq_emit (X : zq_X) (c : Int32) : zq_X := if X.1.2.1 = 0 then (X.1, X.2.1, X.2.2 ++ [c]) else X
def zq_enter (b : Nat → Nat) (L : Nat) (X : zq_X) : zq_X := (zp_adv b L (zp_chk X.1 (X.2.1 < 6) 3), X.2.1 + 1, X.2.2)
/-- codes as they lie -/
def zt_cd (l : List Int32) (M : zt_M) : Prop := M.1 40 = nI l.length ∧ ∀ i, i < l.length → M.2.2.1 20 i = l[i]!
def zt_qx (b : Nat → Nat) (L : Nat) (X : zq_X) (M : zt_M) : Prop := zt_ps b L X.1 M ∧ M.1 36 = nI X.2.1 ∧ zt_cd X.2.2 M
/-- what compiling changes -/
def zt_qw (M M' : zt_M) : Prop := (∀ k, k < 30 ∨ k = 35 → M'.1 k = M.1 k) ∧ M'.2.1 = M.2.1 ∧ (∀ j, j ≠ 20 → M'.2.2.1 j = M.2.2.1 j) ∧ M'.2.2.2 = M.2.2.2
section ZQ1
variable {G : zPg} {n : Nat} {σ : zS} {m : Nat} {N : Nat → Option Nat} {M M' M'' M0 : zt_M} {Q : zQ} {Y : zY} {V D : zs_V} {b : Nat → Nat} {L : Nat} {S : zp_P} {X : zq_X} {l : List Int32} {d : Nat}
theorem zt_qw.rfl' : zt_qw M M := ⟨fun _ _ => rfl, rfl, fun _ _ => rfl, rfl⟩
theorem zt_qw.trans (h : zt_qw M M') (h' : zt_qw M' M'') : zt_qw M M'' := ⟨fun k a => (h'.1 k a).trans (h.1 k a), h'.2.1.trans h.2.1, fun j a => (h'.2.2.1 j a).trans (h.2.2.1 j a), h'.2.2.2.trans h.2.2.2⟩
theorem zt_qw.pr (h : zt_pr M M') : zt_qw M M' := ⟨fun k hk => h.1 k (by omega), by rw [h.2], fun j _ => by rw [h.2], by rw [h.2]⟩
theorem zt_qx.mk (h1 : zt_ps b L S M) (h2 : M.1 36 = nI d) (h3 : zt_cd l M) : zt_qx b L (S, d, l) M := ⟨h1, h2, h3⟩
theorem zt_cd.pr (h : zt_cd l M) (h' : zt_pr M M') : zt_cd l M' := ⟨(h'.1 40 (by omega)).trans h.1, by rw [h'.2]; exact h.2⟩
theorem zt_290 (hm : G.1 ≤ m) (hs : zt_qx b L (S, d, l) M) (hl : S.2.1 = 0 → l.length < 200) {c : Int32} (h : ∀ M', zt_qw M M' → zt_qx b L (zq_emit (S, d, l) c) M' → Q none (zt_S σ m N M')) : zCall G (n + 1) 290 [.ref m, .int c] Q Y (zt_S σ m N M) := by
  obtain ⟨h1, h2, h3, h4⟩ := hs
  have h1 : zt_ps b L S M := h1
  have h2 : M.1 36 = nI d := h2
  have h3 : M.1 40 = nI l.length := h3
  have h4 : ∀ i, i < l.length → M.2.2.1 20 i = l[i]! := h4
  refine ze290 ⟨_, _, rfl, ?_⟩
  simp only [↓zt_rc, ↓zt_g0, ↓zt_g1, ↓zt_g2, ↓zt_g3, ↓zt_g4, ↓zt_g5, ↓zt_g6, ↓zt_g7, ↓zt_g8, ↓zt_g9, ↓zt_g10, ↓zt_g11, ↓zt_g12, ↓zt_g13, ↓zt_g14, ↓zt_g15, ↓zt_g16, ↓zt_g17, ↓zt_g18, ↓zt_g19, ↓zt_g20, ↓zt_g21, ↓zt_g22, ↓zt_g23, ↓zt_g24, ↓zt_g25, ↓zt_g26, ↓zt_g27, ↓zt_g28, ↓zt_g29, ↓zt_g30, ↓zt_g31, ↓zt_g32, ↓zt_g33, ↓zt_g34, ↓zt_g35, ↓zt_g36, ↓zt_g37, ↓zt_g38, ↓zt_g39, ↓zt_g40, ↓zt_p4 hm, ↓zt_p5 hm, ↓zt_p6 hm, ↓zt_p15 hm, ↓zt_p21 hm, ↓zt_p22 hm, ↓zt_p23 hm, ↓zt_p26 hm, ↓zt_p28 hm, ↓zt_p29 hm, ↓zt_p30 hm, ↓zt_p31 hm, ↓zt_p32 hm, ↓zt_p33 hm, ↓zt_p34 hm, ↓zt_p35 hm, ↓zt_p36 hm, ↓zt_p40 hm, ↓zt_p19 hm, ↓zt_p20 hm, ↓zt_a1, ↓zt_a2, ↓zt_a3, ↓zt_a4, ↓zt_a5, ↓zt_a6, ↓zt_a7, ↓zt_a8, ↓zt_a9, ↓zt_a10, ↓zt_a11, ↓zt_a12, ↓zt_a13, ↓zt_a14, ↓zt_a15, ↓zt_a16, ↓zt_a17, ↓zt_a18, ↓zt_a19, ↓zt_a20, ↓zt_a21, ↓zt_s1 hm, ↓zt_s2 hm, ↓zt_s3 hm, ↓zt_s4 hm, ↓zt_s5 hm, ↓zt_s6 hm, ↓zt_s7 hm, ↓zt_s8 hm, ↓zt_s9 hm, ↓zt_s10 hm, ↓zt_s11 hm, ↓zt_s12 hm, ↓zt_s16 hm, ↓zt_s17 hm, ↓zt_s18 hm, ↓zt_s20 hm, ↓zt_s13 hm, ↓zt_s14 hm, ↓zt_s15 hm, ↓zt_s21 hm, ↓zt_l19, ↓zt_l17, forall_eq, ↓zqI_r, ↓zqL_r, ↓zqD_r, ↓zqF_r, ↓zqV_r, ↓zqR_r, ↓zqR_s, zboolb, zbool0, zbool1, true_and, and_true, zJ, h1.e0, h3]
  refine ⟨fun hn => h M zt_qw.rfl' ?_, fun hy => ?_⟩
  · have e : zq_emit (S, d, l) c = (S, d, l) := if_neg hn
    rw [e]
    exact zt_qx.mk h1 h2 ⟨h3, h4⟩
  · have hl' := hl hy
    have e : zq_emit (S, d, l) c = (S, d, l ++ [c]) := if_pos hy
    refine ⟨nI_i (by omega) (by omega), h _ ⟨fun k hk => ?_, rfl, fun j hj => ?_, rfl⟩ ?_⟩
    · show va_up M.1 40 (nI l.length + 1) k = _
      rw [va_up_ne _ _ (by omega)]
    · show va_up M.2.2.1 20 (va_up (M.2.2.1 20) (nI l.length).toNatClampNeg c) j = _
      rw [va_up_ne _ _ hj]
    · rw [e]
      refine zt_qx.mk (h1.fr (fun k a1 a2 => ?_) ?_) ?_ ⟨?_, fun i hi => ?_⟩
      · show va_up M.1 40 (nI l.length + 1) k = _
        rw [va_up_ne _ _ (by omega)]
      · show va_up M.2.2.1 20 (va_up (M.2.2.1 20) (nI l.length).toNatClampNeg c) 18 = _
        rw [va_up_ne _ _ (by omega)]
      · show va_up M.1 40 (nI l.length + 1) 36 = _
        rw [va_up_ne _ _ (by omega)]
        exact h2
      · rw [List.length_append]
        show va_up M.1 40 (nI l.length + 1) 40 = _
        rw [va_up_self, nI_1]
        rfl
      · rw [List.length_append] at hi
        have hi : i < l.length + 1 := hi
        show va_up M.2.2.1 20 (va_up (M.2.2.1 20) (nI l.length).toNatClampNeg c) 20 i = _
        rw [va_up_self, nI_cl (by omega)]
        by_cases ei : i = l.length
        · subst ei
          rw [va_up_self, List.getElem!_eq_getElem?_getD, List.getElem?_append_right (Nat.le_refl _), Nat.sub_self]
          rfl
        · rw [va_up_ne _ _ ei, h4 i (by omega), List.getElem!_eq_getElem?_getD, List.getElem!_eq_getElem?_getD, List.getElem?_append_left (by omega)]
theorem zt_289 (hm : G.1 ≤ m) (hs : zt_qx b L (S, d, l) M) (hd : d ≤ 100) (h : ∀ M', zt_qw M M' → zt_qx b L (zq_enter b L (S, d, l)) M' → Q none (zt_S σ m N M')) : zCall G (n + 5) 289 [.ref m] Q Y (zt_S σ m N M) := by
  obtain ⟨h1, h2, h3⟩ := hs
  have h1 : zt_ps b L S M := h1
  have h2 : M.1 36 = nI d := h2
  have h3 : zt_cd l M := h3
  refine ze289 ⟨_, rfl, ?_⟩
  simp only [↓zt_g36, h2]
  refine zJ_go (fun (j : Int32 → zS → Prop) => j (zs_b (d < 6)) (zt_S σ m N M)) ?_ ?_
  · simp only [↓zt_rc]
    refine zt_273 hm h1 (c := 3) (by omega) fun M1 k1 k2 => zqV_r.mpr ?_
    have e36 : M1.1 36 = nI d := (k1.1 36 (by omega)).trans h2
    simp only [↓zt_rc, ↓zt_g0, ↓zt_g1, ↓zt_g2, ↓zt_g3, ↓zt_g4, ↓zt_g5, ↓zt_g6, ↓zt_g7, ↓zt_g8, ↓zt_g9, ↓zt_g10, ↓zt_g11, ↓zt_g12, ↓zt_g13, ↓zt_g14, ↓zt_g15, ↓zt_g16, ↓zt_g17, ↓zt_g18, ↓zt_g19, ↓zt_g20, ↓zt_g21, ↓zt_g22, ↓zt_g23, ↓zt_g24, ↓zt_g25, ↓zt_g26, ↓zt_g27, ↓zt_g28, ↓zt_g29, ↓zt_g30, ↓zt_g31, ↓zt_g32, ↓zt_g33, ↓zt_g34, ↓zt_g35, ↓zt_g36, ↓zt_g37, ↓zt_g38, ↓zt_g39, ↓zt_g40, ↓zt_p4 hm, ↓zt_p5 hm, ↓zt_p6 hm, ↓zt_p15 hm, ↓zt_p21 hm, ↓zt_p22 hm, ↓zt_p23 hm, ↓zt_p26 hm, ↓zt_p28 hm, ↓zt_p29 hm, ↓zt_p30 hm, ↓zt_p31 hm, ↓zt_p32 hm, ↓zt_p33 hm, ↓zt_p34 hm, ↓zt_p35 hm, ↓zt_p36 hm, ↓zt_p40 hm, ↓zt_p19 hm, ↓zt_p20 hm, ↓zt_a1, ↓zt_a2, ↓zt_a3, ↓zt_a4, ↓zt_a5, ↓zt_a6, ↓zt_a7, ↓zt_a8, ↓zt_a9, ↓zt_a10, ↓zt_a11, ↓zt_a12, ↓zt_a13, ↓zt_a14, ↓zt_a15, ↓zt_a16, ↓zt_a17, ↓zt_a18, ↓zt_a19, ↓zt_a20, ↓zt_a21, ↓zt_s1 hm, ↓zt_s2 hm, ↓zt_s3 hm, ↓zt_s4 hm, ↓zt_s5 hm, ↓zt_s6 hm, ↓zt_s7 hm, ↓zt_s8 hm, ↓zt_s9 hm, ↓zt_s10 hm, ↓zt_s11 hm, ↓zt_s12 hm, ↓zt_s16 hm, ↓zt_s17 hm, ↓zt_s18 hm, ↓zt_s20 hm, ↓zt_s13 hm, ↓zt_s14 hm, ↓zt_s15 hm, ↓zt_s21 hm, ↓zt_l19, ↓zt_l17, forall_eq, ↓zqI_r, ↓zqL_r, ↓zqD_r, ↓zqF_r, ↓zqV_r, ↓zqR_r, ↓zqR_s, zboolb, zbool0, zbool1, true_and, and_true, e36, nI_1]
    have k3 : zt_ps b L (zp_chk S (d < 6) 3) (M1.sI 36 (nI (d + 1))) := by
      refine k2.fr (fun k a1 a2 => ?_) rfl
      show va_up M1.1 36 (nI (d + 1)) k = _
      rw [va_up_ne _ _ (by omega)]
    refine zt_275 hm k3 fun M2 k4 k5 => zqV_r.mpr (h M2 ?_ ?_)
    · refine ⟨fun k hk => ?_, by rw [k4.2]; show M1.2.1 = _; rw [k1.2], fun j hj => by rw [k4.2]; show M1.2.2.1 j = _; rw [k1.2], by rw [k4.2]; show M1.2.2.2 = _; rw [k1.2]⟩
      rw [k4.1 k (by omega)]
      show va_up M1.1 36 (nI (d + 1)) k = _
      rw [va_up_ne _ _ (by omega)]
      exact k1.1 k (by omega)
    · have e : zq_enter b L (S, d, l) = (zp_adv b L (zp_chk S (d < 6) 3), d + 1, l) := rfl
      rw [e]
      have k6 := h3.pr k1
      refine zt_qx.mk k5 ?_ ⟨?_, ?_⟩
      · rw [k4.1 36 (by omega)]
        exact va_up_self M1.1 36 _
      · rw [k4.1 40 (by omega)]
        show va_up M1.1 36 (nI (d + 1)) 40 = _
        rw [va_up_ne _ _ (by omega)]
        exact k6.1
      · rw [k4.2]
        exact k6.2
  · intro j hj
    have c6 : (6 : Int32) ≤ nI d ↔ 6 ≤ d := nI_leI (a := 6) (by omega) (by omega)
    simp only [c6]
    refine ⟨fun h9 => ?_, fun h9 => ?_⟩
    · rw [zs_bf (by omega)] at hj
      exact hj
    · rw [zs_bt (by omega)] at hj
      exact hj
end ZQ1
