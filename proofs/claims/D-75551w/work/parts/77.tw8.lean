/-! THE REFERENCE: operations -/
/-- what stays in an operation that is recorded -/
def zt_pq (t : Int32) (M M' : zt_M) : Prop := M'.1 5 = t ∧ (∀ k, k = 6 ∨ k = 26 ∨ k = 28 ∨ k = 35 → M'.1 k = M.1 k) ∧ ∀ j, j = 3 ∨ j = 17 ∨ j = 18 → M'.2.2.1 j = M.2.2.1 j
theorem zt_pq.ofe {t : Int32} {M M' : zt_M} (h : zt_pe t M M') : zt_pq t M M' := ⟨h.1, fun k hk => h.2.1 k (by omega), fun j hj => h.2.2 j (by omega)⟩
theorem zt_pq.sA1 {t : Int32} {M M' : zt_M} {f : Nat → Int32} (h : zt_pq t M M') : zt_pq t M (M'.sA 1 f) := ⟨h.1, h.2.1, fun j hj => (va_up_ne _ _ (by omega)).trans (h.2.2 j hj)⟩
theorem zt_pq.kp {t : Int32} {a b : Nat} {M M' M'' : zt_M} (h : zt_pq t M M') (h' : zt_kp a b M' M'') (ha : 5 ≤ a) (hb : b ≤ 16) : zt_pq t M M'' := ⟨by rw [h'.1]; exact h.1, fun k hk => by rw [h'.1]; exact h.2.1 k hk, fun j hj => (h'.2.2.2 j (by omega)).trans (h.2.2 j hj)⟩
theorem zt_pq.rec {t : Int32} {M M' M'' : zt_M} (h : zt_pq t M M') (h1 : ∀ k, k ≠ 4 → M''.1 k = M'.1 k) (h2 : ∀ j, j ≠ 4 → M''.2.2.1 j = M'.2.2.1 j) : zt_pq t M M'' := ⟨by rw [h1 5 (by omega)]; exact h.1, fun k hk => by rw [h1 k (by omega)]; exact h.2.1 k hk, fun j hj => by rw [h2 j (by omega)]; exact h.2.2 j hj⟩
theorem zt_hs.sA {M : zt_M} {u : Nat} {H : Nat → zs_V} {j : Nat} {f : Nat → Int32} (h : zt_hs M u H) (hj : j ≠ 4) : zt_hs (M.sA j f) u H := ⟨h.1, h.2.1, fun i hi k hk => by
  show va_up M.2.2.1 j f 4 (61 * i + k) = _
  rw [va_up_ne _ _ (Ne.symm hj)]
  exact h.2.2 i hi k hk⟩
theorem zt_hs.sI {M : zt_M} {u : Nat} {H : Nat → zs_V} {j : Nat} {x : Int32} (h : zt_hs M u H) (hj : j ≠ 4) : zt_hs (M.sI j x) u H := ⟨(va_up_ne _ _ (Ne.symm hj)).trans h.1, h.2.1, h.2.2⟩
theorem zt_hs.kp {M M' : zt_M} {u : Nat} {H : Nat → zs_V} {a b : Nat} (h : zt_hs M u H) (h' : zt_kp a b M M') (ha : 5 ≤ a) : zt_hs M' u H := ⟨by rw [h'.1]; exact h.1, h.2.1, fun i hi k hk => by
  show M'.2.2.1 4 (61 * i + k) = _
  rw [h'.2.2.2 4 (by omega)]
  exact h.2.2 i hi k hk⟩
theorem zs_bg_sim {V W : zs_V} (h : zs_sim V W) : zs_sim V (zs_bg W) := by
  intro k hk
  unfold zs_bg
  rw [if_neg (by omega)]
  exact h k hk
/-- a changed amount, and a game begun anew -/
theorem zs_bg_ok {V : zs_V} (h : zs_ok V) {a : Nat} {x : Int32} (ha : (a = 1 ∧ ∃ c, c ≤ 200 ∧ x = nI c) ∨ (a = 2 ∧ ∃ c, c ≤ 200 ∧ x = nI c) ∨ ∃ k f, k < zs_n V ∧ f ≤ 3 ∧ a = 11 + 4 * k + f ∧ (if f = 0 then 1 ≤ x.toInt ∧ x.toInt ≤ 50 else 0 ≤ x.toInt ∧ x.toInt ≤ 99)) : zs_ok (zs_bg (va_up V a x)) := by
  have hn := h.n0
  have hA := h.all
  have hai : a = 1 ∨ a = 2 ∨ (11 ≤ a ∧ a < 51) := by
    rcases ha with ⟨e, _⟩ | ⟨e, _⟩ | ⟨k, f, h1, h2, e, _⟩ <;> omega
  have hk : ∀ k, ¬ (6 ≤ k ∧ k ≤ 10) → k ≠ a → zs_bg (va_up V a x) k = V k := by
    intro k h1 h2
    unfold zs_bg
    rw [if_neg h1, va_up_ne _ _ h2]
  have hz : ∀ k, 6 ≤ k → k ≤ 10 → zs_bg (va_up V a x) k = nI 0 := by
    intro k h1 h2
    unfold zs_bg
    rw [if_pos ⟨h1, h2⟩]
    rfl
  have hva : zs_bg (va_up V a x) a = x := by
    unfold zs_bg
    rw [if_neg (by omega), va_up_self]
  have en : zs_n (zs_bg (va_up V a x)) = zs_n V := by unfold zs_n; rw [hk 0 (by omega) (by omega)]
  have eA : zs_all (zs_bg (va_up V a x)) = zs_all V := by unfold zs_all; rw [en]
  have hpn : ∀ k f, k < zs_n V → f ≤ 3 → 11 + 4 * k + f ≠ a → zs_p (zs_bg (va_up V a x)) k f = zs_p V k f := by
    intro k f h1 h2 h3
    unfold zs_p
    rw [hk _ (by omega) h3]
  obtain ⟨a1, a2, a3, a4, a5, a6, a7, a8, a9, a10⟩ := h
  refine ⟨?_, ?_, ?_, ?_, ?_, ?_, ?_, ?_, ?_, ?_⟩
  · rw [hk 0 (by omega) (by omega)]; exact a1
  · by_cases e : a = 1
    · rcases ha with ⟨_, h2⟩ | ⟨e2, _⟩ | ⟨k, f, _, _, e2, _⟩
      · subst e
        rw [hva]
        exact h2
      · omega
      · omega
    · rw [hk 1 (by omega) (by omega)]; exact a2
  · by_cases e : a = 2
    · rcases ha with ⟨e2, _⟩ | ⟨_, h2⟩ | ⟨k, f, _, _, e2, _⟩
      · omega
      · subst e
        rw [hva]
        exact h2
      · omega
    · rw [hk 2 (by omega) (by omega)]; exact a3
  · rw [hk 3 (by omega) (by omega)]; exact a4
  · intro k hkn
    rw [en] at hkn
    have h5 := a5 k hkn
    have hp : ∀ f, f ≤ 3 → (if f = 0 then 1 ≤ zs_p (zs_bg (va_up V a x)) k f ∧ zs_p (zs_bg (va_up V a x)) k f ≤ 50 else 0 ≤ zs_p (zs_bg (va_up V a x)) k f ∧ zs_p (zs_bg (va_up V a x)) k f ≤ 99) := by
      intro f hf
      by_cases e : 11 + 4 * k + f = a
      · have e2 : zs_p (zs_bg (va_up V a x)) k f = x.toInt := by
          unfold zs_p
          rw [e, hva]
        rw [e2]
        rcases ha with ⟨e3, _⟩ | ⟨e3, _⟩ | ⟨k', f', _, hf', e3, h6⟩
        · omega
        · omega
        · have : f' = f := by omega
          rw [← this]
          exact h6
      · rw [hpn k f hkn hf e]
        by_cases h0 : f = 0
        · rw [if_pos h0, h0]; exact ⟨h5.1, h5.2.1⟩
        · rw [if_neg h0]; exact h5.2.2 f (by omega) hf
    refine ⟨(hp 0 (by omega)).1, (hp 0 (by omega)).2, fun f h1 h2 => ?_⟩
    have := hp f h2
    rw [if_neg (by omega)] at this
    exact this
  · intro b
    rw [eA]
    have hb := zs_ci_lt b
    have hl := zs_ok.lc ⟨a1, a2, a3, a4, a5, a6, a7, a8, a9, a10⟩ b
    obtain ⟨g1, g2⟩ := a6 b
    have e1 : zs_bg (va_up V a x) (zs_ci b) = V (zs_ci b) := hk _ (by omega) (by omega)
    have e2 : zs_lc (zs_bg (va_up V a x)) b = zs_lc V b := by
      show (zs_bg (va_up V a x) (zs_ci b)).toNatClampNeg = _
      rw [e1]
      rfl
    refine ⟨?_, fun i hi => ?_⟩
    · show ∃ n, n ≤ 5 ∧ zs_bg (va_up V a x) (zs_ci b) = nI n
      rw [e1]
      exact g1
    · rw [e2] at hi
      show ∃ s, s < zs_all V ∧ zs_bg (va_up V a x) (zs_cb b + i) = nI s
      rw [hk _ (by omega) (by omega)]
      exact g2 i hi
  · rw [eA, hz 6 (by omega) (by omega)]; exact ⟨0, by omega, rfl⟩
  · rw [eA, hz 7 (by omega) (by omega)]; exact ⟨0, by omega, rfl⟩
  · rw [hz 8 (by omega) (by omega)]; exact Or.inl rfl
  · rw [hz 9 (by omega) (by omega)]; exact Or.inl rfl
theorem zs_kf_ok {b : Bool} : ∀ (k : Nat) {V : zs_V}, zs_ok V → k ≤ zs_lc V b → zs_ok (zs_kf b k V)
  | 0, _, h, _ => h
  | k + 1, V, h, hk => by
    simp only [zs_kf]
    by_cases hc : zs_w V 0 (zs_li V b k) ≤ zs_cap V
    · rw [if_pos hc]
      exact zs_kf_ok k h (by omega)
    · rw [if_neg hc]
      exact zs_kf_ok k (zs_rm_ok h (by omega)) (by rw [(zs_rm_lc h (by omega)).1]; omega)
section ZT8
variable {G : zPg} {n : Nat} {σ : zS} {m : Nat} {N : Nat → Option Nat} {M M0 : zt_M} {Q : zQ} {Y : zY} {V : zs_V} {u : Nat} {H : Nat → zs_V}
theorem zt_236 (hm : G.1 ≤ m) (hM : M.2.2.1 1 = V) (hh : zt_hs M u H) {t : Int32} (hp : zt_pq t M0 M) {a : Nat} {x : Int32} (ha : a < 61) (hok : zs_ok (zs_bg (va_up V a x))) (h : ∀ M', zt_pq t M0 M' → M'.2.2.1 1 = zs_chg V a x → zs_ok (zs_chg V a x) → zt_hs M' (zs_rec u H V).1 (zs_rec u H V).2 → Q (some (.int (V a))) (zt_S σ m N M')) : zCall G (n + 5) 236 [.ref m, .int (nI a), .int x] Q Y (zt_S σ m N M) := by
  refine ze236 ⟨_, _, _, rfl, ?_⟩
  simp only [↓zt_rc, ↓zt_g0, ↓zt_g1, ↓zt_g2, ↓zt_g3, ↓zt_g4, ↓zt_g5, ↓zt_g6, ↓zt_g7, ↓zt_g8, ↓zt_g9, ↓zt_g10, ↓zt_g11, ↓zt_g12, ↓zt_g13, ↓zt_g14, ↓zt_g15, ↓zt_g16, ↓zt_g17, ↓zt_g18, ↓zt_g19, ↓zt_g20, ↓zt_g21, ↓zt_g22, ↓zt_g23, ↓zt_g24, ↓zt_g25, ↓zt_g26, ↓zt_g27, ↓zt_g28, ↓zt_g29, ↓zt_g30, ↓zt_g31, ↓zt_g32, ↓zt_g33, ↓zt_g34, ↓zt_g35, ↓zt_g36, ↓zt_g37, ↓zt_g38, ↓zt_g39, ↓zt_g40, ↓zt_p4 hm, ↓zt_p5 hm, ↓zt_p6 hm, ↓zt_p15 hm, ↓zt_p21 hm, ↓zt_p22 hm, ↓zt_p23 hm, ↓zt_p26 hm, ↓zt_p28 hm, ↓zt_p29 hm, ↓zt_p30 hm, ↓zt_p31 hm, ↓zt_p32 hm, ↓zt_p33 hm, ↓zt_p34 hm, ↓zt_p35 hm, ↓zt_p36 hm, ↓zt_p40 hm, ↓zt_p19 hm, ↓zt_p20 hm, ↓zt_a1, ↓zt_a2, ↓zt_a3, ↓zt_a4, ↓zt_a5, ↓zt_a6, ↓zt_a7, ↓zt_a8, ↓zt_a9, ↓zt_a10, ↓zt_a11, ↓zt_a12, ↓zt_a13, ↓zt_a14, ↓zt_a15, ↓zt_a16, ↓zt_a17, ↓zt_a18, ↓zt_a19, ↓zt_a20, ↓zt_a21, ↓zt_s1 hm, ↓zt_s2 hm, ↓zt_s3 hm, ↓zt_s4 hm, ↓zt_s5 hm, ↓zt_s6 hm, ↓zt_s7 hm, ↓zt_s8 hm, ↓zt_s9 hm, ↓zt_s10 hm, ↓zt_s11 hm, ↓zt_s12 hm, ↓zt_s16 hm, ↓zt_s17 hm, ↓zt_s18 hm, ↓zt_s20 hm, ↓zt_s13 hm, ↓zt_s14 hm, ↓zt_s15 hm, ↓zt_s21 hm, ↓zt_l19, ↓zt_l17, forall_eq, ↓zqI_r, ↓zqL_r, ↓zqD_r, ↓zqF_r, ↓zqV_r, ↓zqR_r, ↓zqR_s, zboolb, zbool0, zbool1, true_and, and_true]
  refine zt_237 hm hM hh (fun M1 hh1 g1 g2 g3 gA => ?_)
  have e1 : M1.2.2.1 1 = V := (gA 1 (by omega)).trans hM
  simp only [↓zt_rc, ↓zt_g0, ↓zt_g1, ↓zt_g2, ↓zt_g3, ↓zt_g4, ↓zt_g5, ↓zt_g6, ↓zt_g7, ↓zt_g8, ↓zt_g9, ↓zt_g10, ↓zt_g11, ↓zt_g12, ↓zt_g13, ↓zt_g14, ↓zt_g15, ↓zt_g16, ↓zt_g17, ↓zt_g18, ↓zt_g19, ↓zt_g20, ↓zt_g21, ↓zt_g22, ↓zt_g23, ↓zt_g24, ↓zt_g25, ↓zt_g26, ↓zt_g27, ↓zt_g28, ↓zt_g29, ↓zt_g30, ↓zt_g31, ↓zt_g32, ↓zt_g33, ↓zt_g34, ↓zt_g35, ↓zt_g36, ↓zt_g37, ↓zt_g38, ↓zt_g39, ↓zt_g40, ↓zt_p4 hm, ↓zt_p5 hm, ↓zt_p6 hm, ↓zt_p15 hm, ↓zt_p21 hm, ↓zt_p22 hm, ↓zt_p23 hm, ↓zt_p26 hm, ↓zt_p28 hm, ↓zt_p29 hm, ↓zt_p30 hm, ↓zt_p31 hm, ↓zt_p32 hm, ↓zt_p33 hm, ↓zt_p34 hm, ↓zt_p35 hm, ↓zt_p36 hm, ↓zt_p40 hm, ↓zt_p19 hm, ↓zt_p20 hm, ↓zt_a1, ↓zt_a2, ↓zt_a3, ↓zt_a4, ↓zt_a5, ↓zt_a6, ↓zt_a7, ↓zt_a8, ↓zt_a9, ↓zt_a10, ↓zt_a11, ↓zt_a12, ↓zt_a13, ↓zt_a14, ↓zt_a15, ↓zt_a16, ↓zt_a17, ↓zt_a18, ↓zt_a19, ↓zt_a20, ↓zt_a21, ↓zt_s1 hm, ↓zt_s2 hm, ↓zt_s3 hm, ↓zt_s4 hm, ↓zt_s5 hm, ↓zt_s6 hm, ↓zt_s7 hm, ↓zt_s8 hm, ↓zt_s9 hm, ↓zt_s10 hm, ↓zt_s11 hm, ↓zt_s12 hm, ↓zt_s16 hm, ↓zt_s17 hm, ↓zt_s18 hm, ↓zt_s20 hm, ↓zt_s13 hm, ↓zt_s14 hm, ↓zt_s15 hm, ↓zt_s21 hm, ↓zt_l19, ↓zt_l17, forall_eq, ↓zqI_r, ↓zqL_r, ↓zqD_r, ↓zqF_r, ↓zqV_r, ↓zqR_r, ↓zqR_s, zboolb, zbool0, zbool1, true_and, and_true, nI_cl (show a < 2147483648 by omega), e1]
  refine ⟨nI_i (by omega) (by omega), nI_i (by omega) (by omega), ?_⟩
  refine zt_239 hm zt_sAj ?_
  rw [zt_sA2]
  simp only [↓zt_rc, ↓zt_g0, ↓zt_g1, ↓zt_g2, ↓zt_g3, ↓zt_g4, ↓zt_g5, ↓zt_g6, ↓zt_g7, ↓zt_g8, ↓zt_g9, ↓zt_g10, ↓zt_g11, ↓zt_g12, ↓zt_g13, ↓zt_g14, ↓zt_g15, ↓zt_g16, ↓zt_g17, ↓zt_g18, ↓zt_g19, ↓zt_g20, ↓zt_g21, ↓zt_g22, ↓zt_g23, ↓zt_g24, ↓zt_g25, ↓zt_g26, ↓zt_g27, ↓zt_g28, ↓zt_g29, ↓zt_g30, ↓zt_g31, ↓zt_g32, ↓zt_g33, ↓zt_g34, ↓zt_g35, ↓zt_g36, ↓zt_g37, ↓zt_g38, ↓zt_g39, ↓zt_g40, ↓zt_p4 hm, ↓zt_p5 hm, ↓zt_p6 hm, ↓zt_p15 hm, ↓zt_p21 hm, ↓zt_p22 hm, ↓zt_p23 hm, ↓zt_p26 hm, ↓zt_p28 hm, ↓zt_p29 hm, ↓zt_p30 hm, ↓zt_p31 hm, ↓zt_p32 hm, ↓zt_p33 hm, ↓zt_p34 hm, ↓zt_p35 hm, ↓zt_p36 hm, ↓zt_p40 hm, ↓zt_p19 hm, ↓zt_p20 hm, ↓zt_a1, ↓zt_a2, ↓zt_a3, ↓zt_a4, ↓zt_a5, ↓zt_a6, ↓zt_a7, ↓zt_a8, ↓zt_a9, ↓zt_a10, ↓zt_a11, ↓zt_a12, ↓zt_a13, ↓zt_a14, ↓zt_a15, ↓zt_a16, ↓zt_a17, ↓zt_a18, ↓zt_a19, ↓zt_a20, ↓zt_a21, ↓zt_s1 hm, ↓zt_s2 hm, ↓zt_s3 hm, ↓zt_s4 hm, ↓zt_s5 hm, ↓zt_s6 hm, ↓zt_s7 hm, ↓zt_s8 hm, ↓zt_s9 hm, ↓zt_s10 hm, ↓zt_s11 hm, ↓zt_s12 hm, ↓zt_s16 hm, ↓zt_s17 hm, ↓zt_s18 hm, ↓zt_s20 hm, ↓zt_s13 hm, ↓zt_s14 hm, ↓zt_s15 hm, ↓zt_s21 hm, ↓zt_l19, ↓zt_l17, forall_eq, ↓zqI_r, ↓zqL_r, ↓zqD_r, ↓zqF_r, ↓zqV_r, ↓zqR_r, ↓zqR_s, zboolb, zbool0, zbool1, true_and, and_true]
  refine zt_240 (b := true) hm (by decide) zt_sAj hok (fun W1 hW1 hok1 => ?_)
  rw [zt_sA2]
  simp only [↓zt_rc, ↓zt_g0, ↓zt_g1, ↓zt_g2, ↓zt_g3, ↓zt_g4, ↓zt_g5, ↓zt_g6, ↓zt_g7, ↓zt_g8, ↓zt_g9, ↓zt_g10, ↓zt_g11, ↓zt_g12, ↓zt_g13, ↓zt_g14, ↓zt_g15, ↓zt_g16, ↓zt_g17, ↓zt_g18, ↓zt_g19, ↓zt_g20, ↓zt_g21, ↓zt_g22, ↓zt_g23, ↓zt_g24, ↓zt_g25, ↓zt_g26, ↓zt_g27, ↓zt_g28, ↓zt_g29, ↓zt_g30, ↓zt_g31, ↓zt_g32, ↓zt_g33, ↓zt_g34, ↓zt_g35, ↓zt_g36, ↓zt_g37, ↓zt_g38, ↓zt_g39, ↓zt_g40, ↓zt_p4 hm, ↓zt_p5 hm, ↓zt_p6 hm, ↓zt_p15 hm, ↓zt_p21 hm, ↓zt_p22 hm, ↓zt_p23 hm, ↓zt_p26 hm, ↓zt_p28 hm, ↓zt_p29 hm, ↓zt_p30 hm, ↓zt_p31 hm, ↓zt_p32 hm, ↓zt_p33 hm, ↓zt_p34 hm, ↓zt_p35 hm, ↓zt_p36 hm, ↓zt_p40 hm, ↓zt_p19 hm, ↓zt_p20 hm, ↓zt_a1, ↓zt_a2, ↓zt_a3, ↓zt_a4, ↓zt_a5, ↓zt_a6, ↓zt_a7, ↓zt_a8, ↓zt_a9, ↓zt_a10, ↓zt_a11, ↓zt_a12, ↓zt_a13, ↓zt_a14, ↓zt_a15, ↓zt_a16, ↓zt_a17, ↓zt_a18, ↓zt_a19, ↓zt_a20, ↓zt_a21, ↓zt_s1 hm, ↓zt_s2 hm, ↓zt_s3 hm, ↓zt_s4 hm, ↓zt_s5 hm, ↓zt_s6 hm, ↓zt_s7 hm, ↓zt_s8 hm, ↓zt_s9 hm, ↓zt_s10 hm, ↓zt_s11 hm, ↓zt_s12 hm, ↓zt_s16 hm, ↓zt_s17 hm, ↓zt_s18 hm, ↓zt_s20 hm, ↓zt_s13 hm, ↓zt_s14 hm, ↓zt_s15 hm, ↓zt_s21 hm, ↓zt_l19, ↓zt_l17, forall_eq, ↓zqI_r, ↓zqL_r, ↓zqD_r, ↓zqF_r, ↓zqV_r, ↓zqR_r, ↓zqR_s, zboolb, zbool0, zbool1, true_and, and_true]
  refine zt_240 (b := false) hm (by decide) zt_sAj hok1 (fun W2 hW2 hok2 => ?_)
  rw [zt_sA2]
  simp only [↓zt_rc, ↓zt_g0, ↓zt_g1, ↓zt_g2, ↓zt_g3, ↓zt_g4, ↓zt_g5, ↓zt_g6, ↓zt_g7, ↓zt_g8, ↓zt_g9, ↓zt_g10, ↓zt_g11, ↓zt_g12, ↓zt_g13, ↓zt_g14, ↓zt_g15, ↓zt_g16, ↓zt_g17, ↓zt_g18, ↓zt_g19, ↓zt_g20, ↓zt_g21, ↓zt_g22, ↓zt_g23, ↓zt_g24, ↓zt_g25, ↓zt_g26, ↓zt_g27, ↓zt_g28, ↓zt_g29, ↓zt_g30, ↓zt_g31, ↓zt_g32, ↓zt_g33, ↓zt_g34, ↓zt_g35, ↓zt_g36, ↓zt_g37, ↓zt_g38, ↓zt_g39, ↓zt_g40, ↓zt_p4 hm, ↓zt_p5 hm, ↓zt_p6 hm, ↓zt_p15 hm, ↓zt_p21 hm, ↓zt_p22 hm, ↓zt_p23 hm, ↓zt_p26 hm, ↓zt_p28 hm, ↓zt_p29 hm, ↓zt_p30 hm, ↓zt_p31 hm, ↓zt_p32 hm, ↓zt_p33 hm, ↓zt_p34 hm, ↓zt_p35 hm, ↓zt_p36 hm, ↓zt_p40 hm, ↓zt_p19 hm, ↓zt_p20 hm, ↓zt_a1, ↓zt_a2, ↓zt_a3, ↓zt_a4, ↓zt_a5, ↓zt_a6, ↓zt_a7, ↓zt_a8, ↓zt_a9, ↓zt_a10, ↓zt_a11, ↓zt_a12, ↓zt_a13, ↓zt_a14, ↓zt_a15, ↓zt_a16, ↓zt_a17, ↓zt_a18, ↓zt_a19, ↓zt_a20, ↓zt_a21, ↓zt_s1 hm, ↓zt_s2 hm, ↓zt_s3 hm, ↓zt_s4 hm, ↓zt_s5 hm, ↓zt_s6 hm, ↓zt_s7 hm, ↓zt_s8 hm, ↓zt_s9 hm, ↓zt_s10 hm, ↓zt_s11 hm, ↓zt_s12 hm, ↓zt_s16 hm, ↓zt_s17 hm, ↓zt_s18 hm, ↓zt_s20 hm, ↓zt_s13 hm, ↓zt_s14 hm, ↓zt_s15 hm, ↓zt_s21 hm, ↓zt_l19, ↓zt_l17, forall_eq, ↓zqI_r, ↓zqL_r, ↓zqD_r, ↓zqF_r, ↓zqV_r, ↓zqR_r, ↓zqR_s, zboolb, zbool0, zbool1, true_and, and_true]
  have e2 : W2 = zs_chg V a x := by
    rw [hW2, hW1]
    rfl
  subst e2
  exact h _ ((hp.rec g1 gA).sA1) zt_sAj hok2 (hh1.sA (by omega))
theorem zt_242 (hm : G.1 ≤ m) (hM : M.2.2.1 1 = V) (hV : zs_ok V) (hh : zt_hs M u H) {x : Int32} (h1 : 0 ≤ x.toInt ∧ x.toInt ≤ 200 → ∀ M', zt_pq 0 M M' → M'.2.2.1 1 = zs_chg V 1 x → zs_ok (zs_chg V 1 x) → zt_hs M' (zs_rec u H V).1 (zs_rec u H V).2 → Q (some (.int (V 1))) (zt_S σ m N M')) (h0 : ¬ (0 ≤ x.toInt ∧ x.toInt ≤ 200) → ∀ M', zt_pe 1 M M' → Q (some (.int 0)) (zt_S σ m N M')) : zCall G (n + 6) 242 [.ref m, .int x] Q Y (zt_S σ m N M) := by
  refine ze242 ⟨_, _, rfl, ?_⟩
  have e : (0 ≤ x ∧ x ≤ 200) ↔ (0 ≤ x.toInt ∧ x.toInt ≤ 200) := by
    rw [fa_le, fa_le]
    exact Iff.rfl
  simp only [↓zt_rc, ↓zt_g0, ↓zt_g1, ↓zt_g2, ↓zt_g3, ↓zt_g4, ↓zt_g5, ↓zt_g6, ↓zt_g7, ↓zt_g8, ↓zt_g9, ↓zt_g10, ↓zt_g11, ↓zt_g12, ↓zt_g13, ↓zt_g14, ↓zt_g15, ↓zt_g16, ↓zt_g17, ↓zt_g18, ↓zt_g19, ↓zt_g20, ↓zt_g21, ↓zt_g22, ↓zt_g23, ↓zt_g24, ↓zt_g25, ↓zt_g26, ↓zt_g27, ↓zt_g28, ↓zt_g29, ↓zt_g30, ↓zt_g31, ↓zt_g32, ↓zt_g33, ↓zt_g34, ↓zt_g35, ↓zt_g36, ↓zt_g37, ↓zt_g38, ↓zt_g39, ↓zt_g40, ↓zt_p4 hm, ↓zt_p5 hm, ↓zt_p6 hm, ↓zt_p15 hm, ↓zt_p21 hm, ↓zt_p22 hm, ↓zt_p23 hm, ↓zt_p26 hm, ↓zt_p28 hm, ↓zt_p29 hm, ↓zt_p30 hm, ↓zt_p31 hm, ↓zt_p32 hm, ↓zt_p33 hm, ↓zt_p34 hm, ↓zt_p35 hm, ↓zt_p36 hm, ↓zt_p40 hm, ↓zt_p19 hm, ↓zt_p20 hm, ↓zt_a1, ↓zt_a2, ↓zt_a3, ↓zt_a4, ↓zt_a5, ↓zt_a6, ↓zt_a7, ↓zt_a8, ↓zt_a9, ↓zt_a10, ↓zt_a11, ↓zt_a12, ↓zt_a13, ↓zt_a14, ↓zt_a15, ↓zt_a16, ↓zt_a17, ↓zt_a18, ↓zt_a19, ↓zt_a20, ↓zt_a21, ↓zt_s1 hm, ↓zt_s2 hm, ↓zt_s3 hm, ↓zt_s4 hm, ↓zt_s5 hm, ↓zt_s6 hm, ↓zt_s7 hm, ↓zt_s8 hm, ↓zt_s9 hm, ↓zt_s10 hm, ↓zt_s11 hm, ↓zt_s12 hm, ↓zt_s16 hm, ↓zt_s17 hm, ↓zt_s18 hm, ↓zt_s20 hm, ↓zt_s13 hm, ↓zt_s14 hm, ↓zt_s15 hm, ↓zt_s21 hm, ↓zt_l19, ↓zt_l17, forall_eq, ↓zqI_r, ↓zqL_r, ↓zqD_r, ↓zqF_r, ↓zqV_r, ↓zqR_r, ↓zqR_s, zboolb, zbool0, zbool1, true_and, and_true, ↓zl_166, ↓zl_163 hm, zJ, zs_b0, Classical.not_not, e]
  refine ⟨fun hn => h0 hn _ (zt_pe.re zt_pe.thr), fun hi => ?_⟩
  obtain ⟨c, hc1, hc2⟩ : ∃ c : Nat, c ≤ 200 ∧ x = nI c := ⟨x.toInt.toNat, by omega, by rw [← iI_nat, show ((x.toInt.toNat : Nat) : Int) = x.toInt by omega, iI_of]⟩
  refine zt_236 (a := 1) (t := 0) (M0 := M) hm (by exact hM) (hh.sI (by omega)) (zt_pq.ofe zt_pe.thr) (by omega) (zs_bg_ok hV (Or.inl ⟨rfl, c, hc1, hc2⟩)) (fun M' a1 a2 a3 a4 => ?_)
  simp only [forall_eq, ↓zqI_r, ↓zqL_r, ↓zqD_r, ↓zqF_r, ↓zqV_r, ↓zqR_r, ↓zqR_s]
  exact h1 hi M' a1 a2 a3 a4
theorem zt_243 (hm : G.1 ≤ m) (hM : M.2.2.1 1 = V) (hV : zs_ok V) (hh : zt_hs M u H) {x : Int32} (h1 : 0 ≤ x.toInt ∧ x.toInt ≤ 200 → ∀ M', zt_pq 0 M M' → M'.2.2.1 1 = zs_chg V 2 x → zs_ok (zs_chg V 2 x) → zt_hs M' (zs_rec u H V).1 (zs_rec u H V).2 → Q (some (.int (V 2))) (zt_S σ m N M')) (h0 : ¬ (0 ≤ x.toInt ∧ x.toInt ≤ 200) → ∀ M', zt_pe 1 M M' → Q (some (.int 0)) (zt_S σ m N M')) : zCall G (n + 6) 243 [.ref m, .int x] Q Y (zt_S σ m N M) := by
  refine ze243 ⟨_, _, rfl, ?_⟩
  have e : (0 ≤ x ∧ x ≤ 200) ↔ (0 ≤ x.toInt ∧ x.toInt ≤ 200) := by
    rw [fa_le, fa_le]
    exact Iff.rfl
  simp only [↓zt_rc, ↓zt_g0, ↓zt_g1, ↓zt_g2, ↓zt_g3, ↓zt_g4, ↓zt_g5, ↓zt_g6, ↓zt_g7, ↓zt_g8, ↓zt_g9, ↓zt_g10, ↓zt_g11, ↓zt_g12, ↓zt_g13, ↓zt_g14, ↓zt_g15, ↓zt_g16, ↓zt_g17, ↓zt_g18, ↓zt_g19, ↓zt_g20, ↓zt_g21, ↓zt_g22, ↓zt_g23, ↓zt_g24, ↓zt_g25, ↓zt_g26, ↓zt_g27, ↓zt_g28, ↓zt_g29, ↓zt_g30, ↓zt_g31, ↓zt_g32, ↓zt_g33, ↓zt_g34, ↓zt_g35, ↓zt_g36, ↓zt_g37, ↓zt_g38, ↓zt_g39, ↓zt_g40, ↓zt_p4 hm, ↓zt_p5 hm, ↓zt_p6 hm, ↓zt_p15 hm, ↓zt_p21 hm, ↓zt_p22 hm, ↓zt_p23 hm, ↓zt_p26 hm, ↓zt_p28 hm, ↓zt_p29 hm, ↓zt_p30 hm, ↓zt_p31 hm, ↓zt_p32 hm, ↓zt_p33 hm, ↓zt_p34 hm, ↓zt_p35 hm, ↓zt_p36 hm, ↓zt_p40 hm, ↓zt_p19 hm, ↓zt_p20 hm, ↓zt_a1, ↓zt_a2, ↓zt_a3, ↓zt_a4, ↓zt_a5, ↓zt_a6, ↓zt_a7, ↓zt_a8, ↓zt_a9, ↓zt_a10, ↓zt_a11, ↓zt_a12, ↓zt_a13, ↓zt_a14, ↓zt_a15, ↓zt_a16, ↓zt_a17, ↓zt_a18, ↓zt_a19, ↓zt_a20, ↓zt_a21, ↓zt_s1 hm, ↓zt_s2 hm, ↓zt_s3 hm, ↓zt_s4 hm, ↓zt_s5 hm, ↓zt_s6 hm, ↓zt_s7 hm, ↓zt_s8 hm, ↓zt_s9 hm, ↓zt_s10 hm, ↓zt_s11 hm, ↓zt_s12 hm, ↓zt_s16 hm, ↓zt_s17 hm, ↓zt_s18 hm, ↓zt_s20 hm, ↓zt_s13 hm, ↓zt_s14 hm, ↓zt_s15 hm, ↓zt_s21 hm, ↓zt_l19, ↓zt_l17, forall_eq, ↓zqI_r, ↓zqL_r, ↓zqD_r, ↓zqF_r, ↓zqV_r, ↓zqR_r, ↓zqR_s, zboolb, zbool0, zbool1, true_and, and_true, ↓zl_166, ↓zl_163 hm, zJ, zs_b0, Classical.not_not, e]
  refine ⟨fun hn => h0 hn _ (zt_pe.re zt_pe.thr), fun hi => ?_⟩
  obtain ⟨c, hc1, hc2⟩ : ∃ c : Nat, c ≤ 200 ∧ x = nI c := ⟨x.toInt.toNat, by omega, by rw [← iI_nat, show ((x.toInt.toNat : Nat) : Int) = x.toInt by omega, iI_of]⟩
  refine zt_236 (a := 2) (t := 0) (M0 := M) hm (by exact hM) (hh.sI (by omega)) (zt_pq.ofe zt_pe.thr) (by omega) (zs_bg_ok hV (Or.inr (Or.inl ⟨rfl, c, hc1, hc2⟩))) (fun M' a1 a2 a3 a4 => ?_)
  simp only [forall_eq, ↓zqI_r, ↓zqL_r, ↓zqD_r, ↓zqF_r, ↓zqV_r, ↓zqR_r, ↓zqR_s]
  exact h1 hi M' a1 a2 a3 a4
/-- an amount that may be set -/
def zs_amt (f : Nat) (x : Int32) : Prop := if f = 0 then 1 ≤ x.toInt ∧ x.toInt ≤ 50 else 0 ≤ x.toInt ∧ x.toInt ≤ 99
theorem zt_234 (hm : G.1 ≤ m) (hM : M.2.2.1 1 = V) (hV : zs_ok V) (hh : zt_hs M u H) {x y z : Int32} (h0 : ∀ k f, k < zs_n V → f ≤ 3 → x = nI k → y = nI f → zs_amt f z → ∀ M', zt_pq 0 M M' → M'.2.2.1 1 = zs_chg V (11 + 4 * k + f) z → zs_ok (zs_chg V (11 + 4 * k + f) z) → zt_hs M' (zs_rec u H V).1 (zs_rec u H V).2 → Q (some (.int (V (11 + 4 * k + f)))) (zt_S σ m N M')) (h1 : ¬ (0 ≤ x.toInt ∧ x.toInt < zs_n V ∧ 0 ≤ y.toInt ∧ y.toInt ≤ 3) → ∀ M', zt_pe 1 M M' → Q (some (.int 0)) (zt_S σ m N M')) (h2 : ∀ k f, k < zs_n V → f ≤ 3 → x = nI k → y = nI f → ¬ zs_amt f z → ∀ M', zt_pe 2 M M' → Q (some (.int 0)) (zt_S σ m N M')) : zCall G (n + 6) 234 [.ref m, .int x, .int y, .int z] Q Y (zt_S σ m N M) := by
  have hn := hV.n0
  refine ze234 ⟨_, _, _, _, rfl, ?_⟩
  have e1 : (0 ≤ x ∧ x ≤ nI (zs_n V) - 1) ↔ (0 ≤ x.toInt ∧ x.toInt < zs_n V) := by
    have : nI (zs_n V) - 1 = iI ((zs_n V : Int) - 1) := by
      show iI (zs_n V) - iI 1 = _
      rw [iI_sub]
    rw [this, fa_le, fa_le, iI_to (by omega) (by omega)]
    show 0 ≤ x.toInt ∧ _ ↔ _
    omega
  have e2 : (0 ≤ y ∧ y ≤ 3) ↔ (0 ≤ y.toInt ∧ y.toInt ≤ 3) := by
    rw [fa_le, fa_le]
    exact Iff.rfl
  have e3 : (0 ≤ z ∧ z ≤ 99) ↔ (0 ≤ z.toInt ∧ z.toInt ≤ 99) := by
    rw [fa_le, fa_le]
    exact Iff.rfl
  have e4 : (1 ≤ z ∧ z ≤ 50) ↔ (1 ≤ z.toInt ∧ z.toInt ≤ 50) := by
    rw [fa_le, fa_le]
    exact Iff.rfl
  have d1 : ((1 : Int32) = 0) = False := by decide
  have d2 : ((2 : Int32) = 0) = False := by decide
  simp only [↓zt_rc, ↓zt_g0, ↓zt_g1, ↓zt_g2, ↓zt_g3, ↓zt_g4, ↓zt_g5, ↓zt_g6, ↓zt_g7, ↓zt_g8, ↓zt_g9, ↓zt_g10, ↓zt_g11, ↓zt_g12, ↓zt_g13, ↓zt_g14, ↓zt_g15, ↓zt_g16, ↓zt_g17, ↓zt_g18, ↓zt_g19, ↓zt_g20, ↓zt_g21, ↓zt_g22, ↓zt_g23, ↓zt_g24, ↓zt_g25, ↓zt_g26, ↓zt_g27, ↓zt_g28, ↓zt_g29, ↓zt_g30, ↓zt_g31, ↓zt_g32, ↓zt_g33, ↓zt_g34, ↓zt_g35, ↓zt_g36, ↓zt_g37, ↓zt_g38, ↓zt_g39, ↓zt_g40, ↓zt_p4 hm, ↓zt_p5 hm, ↓zt_p6 hm, ↓zt_p15 hm, ↓zt_p21 hm, ↓zt_p22 hm, ↓zt_p23 hm, ↓zt_p26 hm, ↓zt_p28 hm, ↓zt_p29 hm, ↓zt_p30 hm, ↓zt_p31 hm, ↓zt_p32 hm, ↓zt_p33 hm, ↓zt_p34 hm, ↓zt_p35 hm, ↓zt_p36 hm, ↓zt_p40 hm, ↓zt_p19 hm, ↓zt_p20 hm, ↓zt_a1, ↓zt_a2, ↓zt_a3, ↓zt_a4, ↓zt_a5, ↓zt_a6, ↓zt_a7, ↓zt_a8, ↓zt_a9, ↓zt_a10, ↓zt_a11, ↓zt_a12, ↓zt_a13, ↓zt_a14, ↓zt_a15, ↓zt_a16, ↓zt_a17, ↓zt_a18, ↓zt_a19, ↓zt_a20, ↓zt_a21, ↓zt_s1 hm, ↓zt_s2 hm, ↓zt_s3 hm, ↓zt_s4 hm, ↓zt_s5 hm, ↓zt_s6 hm, ↓zt_s7 hm, ↓zt_s8 hm, ↓zt_s9 hm, ↓zt_s10 hm, ↓zt_s11 hm, ↓zt_s12 hm, ↓zt_s16 hm, ↓zt_s17 hm, ↓zt_s18 hm, ↓zt_s20 hm, ↓zt_s13 hm, ↓zt_s14 hm, ↓zt_s15 hm, ↓zt_s21 hm, ↓zt_l19, ↓zt_l17, forall_eq, ↓zqI_r, ↓zqL_r, ↓zqD_r, ↓zqF_r, ↓zqV_r, ↓zqR_r, ↓zqR_s, zboolb, zbool0, zbool1, true_and, and_true, ↓zl_165, ↓zl_166, zJ, zs_b0, Classical.not_not, hM, hn.1, e1, va_up_self, d1, d2, not_false_eq_true, true_implies, false_implies, and_true, true_and, not_true]
  refine ⟨fun h9 => h1 (by omega) _ zt_pe.thr, fun h9 => ?_⟩
  simp only [e2]
  refine ⟨fun h8 => ?_, fun h8 => h1 (by omega) _ zt_pe.thr⟩
  obtain ⟨k, hk, rfl⟩ : ∃ k : Nat, k < zs_n V ∧ x = nI k := ⟨x.toInt.toNat, by omega, by rw [← iI_nat, show ((x.toInt.toNat : Nat) : Int) = x.toInt by omega, iI_of]⟩
  obtain ⟨f, hf, rfl⟩ : ∃ f : Nat, f ≤ 3 ∧ y = nI f := ⟨y.toInt.toNat, by omega, by rw [← iI_nat, show ((y.toInt.toNat : Nat) : Int) = y.toInt by omega, iI_of]⟩
  have go : zs_amt f z → zCall G (n + 5) 236 [.ref m, .int (nI (11 + 4 * k + f)), .int z] (zqI (fun v s => Q (some (.int v)) s)) Y (zt_S σ m N (M.sI 5 0)) := by
    intro hamt
    refine zt_236 (a := 11 + 4 * k + f) (t := 0) (M0 := M) hm (by exact hM) (hh.sI (by omega)) (zt_pq.ofe zt_pe.thr) (by omega) (zs_bg_ok hV (Or.inr (Or.inr ⟨k, f, hk, hf, rfl, hamt⟩))) (fun M' a1 a2 a3 a4 => ?_)
    simp only [forall_eq, ↓zqI_r, ↓zqL_r, ↓zqD_r, ↓zqF_r, ↓zqV_r, ↓zqR_r, ↓zqR_s]
    exact h0 k f hk hf rfl rfl hamt M' a1 a2 a3 a4
  have ef : nI f = 0 ↔ f = 0 := by
    show nI f = nI 0 ↔ _
    rw [nI_eq (by omega) (by omega)]
  refine ze235 ⟨_, _, rfl, ?_⟩
  simp only [↓zt_rc, ↓zt_g0, ↓zt_g1, ↓zt_g2, ↓zt_g3, ↓zt_g4, ↓zt_g5, ↓zt_g6, ↓zt_g7, ↓zt_g8, ↓zt_g9, ↓zt_g10, ↓zt_g11, ↓zt_g12, ↓zt_g13, ↓zt_g14, ↓zt_g15, ↓zt_g16, ↓zt_g17, ↓zt_g18, ↓zt_g19, ↓zt_g20, ↓zt_g21, ↓zt_g22, ↓zt_g23, ↓zt_g24, ↓zt_g25, ↓zt_g26, ↓zt_g27, ↓zt_g28, ↓zt_g29, ↓zt_g30, ↓zt_g31, ↓zt_g32, ↓zt_g33, ↓zt_g34, ↓zt_g35, ↓zt_g36, ↓zt_g37, ↓zt_g38, ↓zt_g39, ↓zt_g40, ↓zt_p4 hm, ↓zt_p5 hm, ↓zt_p6 hm, ↓zt_p15 hm, ↓zt_p21 hm, ↓zt_p22 hm, ↓zt_p23 hm, ↓zt_p26 hm, ↓zt_p28 hm, ↓zt_p29 hm, ↓zt_p30 hm, ↓zt_p31 hm, ↓zt_p32 hm, ↓zt_p33 hm, ↓zt_p34 hm, ↓zt_p35 hm, ↓zt_p36 hm, ↓zt_p40 hm, ↓zt_p19 hm, ↓zt_p20 hm, ↓zt_a1, ↓zt_a2, ↓zt_a3, ↓zt_a4, ↓zt_a5, ↓zt_a6, ↓zt_a7, ↓zt_a8, ↓zt_a9, ↓zt_a10, ↓zt_a11, ↓zt_a12, ↓zt_a13, ↓zt_a14, ↓zt_a15, ↓zt_a16, ↓zt_a17, ↓zt_a18, ↓zt_a19, ↓zt_a20, ↓zt_a21, ↓zt_s1 hm, ↓zt_s2 hm, ↓zt_s3 hm, ↓zt_s4 hm, ↓zt_s5 hm, ↓zt_s6 hm, ↓zt_s7 hm, ↓zt_s8 hm, ↓zt_s9 hm, ↓zt_s10 hm, ↓zt_s11 hm, ↓zt_s12 hm, ↓zt_s16 hm, ↓zt_s17 hm, ↓zt_s18 hm, ↓zt_s20 hm, ↓zt_s13 hm, ↓zt_s14 hm, ↓zt_s15 hm, ↓zt_s21 hm, ↓zt_l19, ↓zt_l17, forall_eq, ↓zqI_r, ↓zqL_r, ↓zqD_r, ↓zqF_r, ↓zqV_r, ↓zqR_r, ↓zqR_s, zboolb, zbool0, zbool1, true_and, and_true, ↓zl_166, zJ, zs_b0, Classical.not_not, ef, e3, e4, zx_item, va_up_self, d1, d2, not_false_eq_true, true_implies, false_implies, and_true, true_and, not_true]
  refine ⟨fun h0' => ⟨fun hno => ?_, fun hyes => ?_⟩, fun h0' => ⟨fun hno => ?_, fun hyes => ?_⟩⟩
  · exact h2 k f hk hf rfl rfl (by unfold zs_amt; rw [if_neg h0']; exact hno) _ zt_pe.thr
  · exact go (by unfold zs_amt; rw [if_neg h0']; exact hyes)
  · exact h2 k f hk hf rfl rfl (by unfold zs_amt; rw [if_pos h0']; exact hno) _ zt_pe.thr
  · exact go (by unfold zs_amt; rw [if_pos h0']; exact hyes)
end ZT8
