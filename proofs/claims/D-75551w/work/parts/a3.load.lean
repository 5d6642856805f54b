/-! THE REFERENCE: load -/
def zs_clr (f : Nat → Int32) : Nat → Int32 := fun q => if q < 61 then 0 else f q
theorem zs_ok_61 {V W : zs_V} (h : zs_ok V) (hs : ∀ i, i < 61 → W i = V i) : zs_ok W := by
  have hn10 := h.n0.2
  have en : zs_n W = zs_n V := by
    unfold zs_n
    rw [hs 0 (by omega)]
  have eA : zs_all W = zs_all V := by
    unfold zs_all
    rw [en]
  have hl5 : ∀ g, zs_lc V g ≤ 5 := fun g => (h.lc g).2
  obtain ⟨a1, a2, a3, a4, a5, a6, a7, a8, a9, a10⟩ := h
  refine ⟨?_, ?_, ?_, ?_, ?_, ?_, ?_, ?_, ?_, ?_⟩
  · rw [hs 0 (by omega)]; exact a1
  · rw [hs 1 (by omega)]; exact a2
  · rw [hs 2 (by omega)]; exact a3
  · rw [hs 3 (by omega)]; exact a4
  · have hp : ∀ k f, k < zs_n V → f ≤ 3 → zs_p W k f = zs_p V k f := by
      intro k f h1 h2
      unfold zs_p
      rw [hs _ (by omega)]
    intro k hk
    rw [en] at hk
    rw [hp k 0 hk (by omega)]
    refine ⟨(a5 k hk).1, (a5 k hk).2.1, fun f hf1 hf2 => ?_⟩
    rw [hp k f hk hf2]
    exact (a5 k hk).2.2 f hf1 hf2
  · intro g
    have h5 := hl5 g
    have e0 : W (if g then 4 else 5) = V (if g then 4 else 5) := hs _ (by split <;> omega)
    have e2 : zs_lc W g = zs_lc V g := by
      unfold zs_lc
      rw [e0]
    rw [e0, e2, eA]
    refine ⟨(a6 g).1, fun i hi => ?_⟩
    rw [hs _ (by split <;> omega)]
    exact (a6 g).2 i hi
  · rw [eA, hs 6 (by omega)]; exact a7
  · rw [eA, hs 7 (by omega)]; exact a8
  · rw [hs 8 (by omega)]; exact a9
  · rw [hs 9 (by omega)]; exact a10
theorem zs_ok_0 : zs_ok (fun _ => nI 0) := by
  have e : ∀ k, (nI k).toNatClampNeg = k ∨ True := fun _ => Or.inr trivial
  have en : zs_n (fun _ => nI 0) = 0 := rfl
  have el : ∀ g, zs_lc (fun _ => nI 0) g = 0 := fun g => rfl
  refine ⟨⟨0, by omega, rfl⟩, ⟨0, by omega, rfl⟩, ⟨0, by omega, rfl⟩, Or.inl rfl, fun k hk => ?_, fun g => ⟨⟨0, by omega, rfl⟩, fun i hi => ?_⟩, ⟨0, by decide, rfl⟩, ⟨0, by decide, rfl⟩, Or.inl rfl, Or.inl rfl⟩
  · rw [en] at hk
    omega
  · rw [el] at hi
    omega
theorem zs_clr_ok (f : Nat → Int32) : zs_ok (zs_clr f) := zs_ok_61 zs_ok_0 fun i hi => by
  unfold zs_clr
  rw [if_pos hi]
  rfl
/-- a text is read from a bare draft -/
def zp_txt (b : Nat → Nat) (L : Nat) (f : Nat → Int32) : zp_X := zp_all b L (zp_S0 b L, zs_clr f)
section ZLD
variable {G : zPg} {n : Nat} {σ : zS} {m : Nat} {N : Nat → Option Nat} {M M' M'' M0 : zt_M} {Q : zQ} {Y : zY} {V D : zs_V} {b : Nat → Nat} {L : Nat} {S : zp_P} {X : zp_X}
theorem zt_155 (hm : G.1 ≤ m) (h : Q none (zt_S σ m N (M.sA 2 (zs_clr (M.2.2.1 2))))) : zCall G (n + 1) 155 [va_rf (some (m + 2))] Q Y (zt_S σ m N M) := by
  refine ze155 ⟨_, rfl, ?_⟩
  refine zf2 0 61 (fun q s' => ∃ f, s' = zt_S σ m N (M.sA 2 f) ∧ ∀ i, f i = if i < q then 0 else M.2.2.1 2 i) (by omega) ?_ ?_ ⟨M.2.2.1 2, ?_, fun i => by rw [if_neg (by omega)]⟩
  · rintro rec q s' _ hq ⟨f, rfl, hf⟩ hrec
    refine ⟨fun h9 => absurd h9 (nI_ge (b := 61) hq (by omega)), fun _ => ?_⟩
    simp only [↓zt_rc, ↓zt_g0, ↓zt_g1, ↓zt_g2, ↓zt_g3, ↓zt_g4, ↓zt_g5, ↓zt_g6, ↓zt_g7, ↓zt_g8, ↓zt_g9, ↓zt_g10, ↓zt_g11, ↓zt_g12, ↓zt_g13, ↓zt_g14, ↓zt_g15, ↓zt_g16, ↓zt_g17, ↓zt_g18, ↓zt_g19, ↓zt_g20, ↓zt_g21, ↓zt_g22, ↓zt_g23, ↓zt_g24, ↓zt_g25, ↓zt_g26, ↓zt_g27, ↓zt_g28, ↓zt_g29, ↓zt_g30, ↓zt_g31, ↓zt_g32, ↓zt_g33, ↓zt_g34, ↓zt_g35, ↓zt_g36, ↓zt_g37, ↓zt_g38, ↓zt_g39, ↓zt_g40, ↓zt_p4 hm, ↓zt_p5 hm, ↓zt_p6 hm, ↓zt_p15 hm, ↓zt_p21 hm, ↓zt_p22 hm, ↓zt_p23 hm, ↓zt_p26 hm, ↓zt_p28 hm, ↓zt_p29 hm, ↓zt_p30 hm, ↓zt_p31 hm, ↓zt_p32 hm, ↓zt_p33 hm, ↓zt_p34 hm, ↓zt_p35 hm, ↓zt_p36 hm, ↓zt_p40 hm, ↓zt_p19 hm, ↓zt_p20 hm, ↓zt_a1, ↓zt_a2, ↓zt_a3, ↓zt_a4, ↓zt_a5, ↓zt_a6, ↓zt_a7, ↓zt_a8, ↓zt_a9, ↓zt_a10, ↓zt_a11, ↓zt_a12, ↓zt_a13, ↓zt_a14, ↓zt_a15, ↓zt_a16, ↓zt_a17, ↓zt_a18, ↓zt_a19, ↓zt_a20, ↓zt_a21, ↓zt_s1 hm, ↓zt_s2 hm, ↓zt_s3 hm, ↓zt_s4 hm, ↓zt_s5 hm, ↓zt_s6 hm, ↓zt_s7 hm, ↓zt_s8 hm, ↓zt_s9 hm, ↓zt_s10 hm, ↓zt_s11 hm, ↓zt_s12 hm, ↓zt_s16 hm, ↓zt_s17 hm, ↓zt_s18 hm, ↓zt_s20 hm, ↓zt_s13 hm, ↓zt_s14 hm, ↓zt_s15 hm, ↓zt_s21 hm, ↓zt_l19, ↓zt_l17, forall_eq, ↓zqI_r, ↓zqL_r, ↓zqD_r, ↓zqF_r, ↓zqV_r, ↓zqR_r, ↓zqR_s, zboolb, zbool0, zbool1, true_and, and_true, nI_cl (show q < 2147483648 by omega)]
    refine ⟨nI_i hq (by omega), hrec _ ⟨va_up f q 0, ?_, fun i => ?_⟩⟩
    · unfold zt_M.sA
      rw [va_up_self]
      congr 1
      refine Prod.ext rfl (Prod.ext rfl (Prod.ext ?_ rfl))
      funext j
      by_cases e : j = 2
      · subst e
        show va_up (va_up M.2.2.1 2 f) 2 (va_up f q 0) 2 = va_up M.2.2.1 2 (va_up f q 0) 2
        rw [va_up_self, va_up_self]
      · show va_up (va_up M.2.2.1 2 f) 2 (va_up f q 0) j = va_up M.2.2.1 2 (va_up f q 0) j
        rw [va_up_ne _ _ e, va_up_ne _ _ e, va_up_ne _ _ e]
    · by_cases e : i = q
      · subst e
        rw [va_up_self, if_pos (by omega)]
      · rw [va_up_ne _ _ e, hf i]
        by_cases h2 : i < q
        · rw [if_pos h2, if_pos (by omega)]
        · rw [if_neg h2, if_neg (by omega)]
  · rintro rec s' ⟨f, rfl, hf⟩
    have e : f = zs_clr (M.2.2.1 2) := funext fun i => hf i
    subst e
    exact ⟨fun _ => h, fun h9 => absurd (nI_le (Nat.le_refl 61) (by omega)) h9⟩
  · congr 1
    refine Prod.ext rfl (Prod.ext rfl (Prod.ext ?_ rfl))
    funext j
    by_cases e : j = 2
    · subst e
      show _ = va_up M.2.2.1 2 (M.2.2.1 2) 2
      rw [va_up_self]
    · show _ = va_up M.2.2.1 2 (M.2.2.1 2) j
      rw [va_up_ne _ _ e]
theorem zt_284 (hm : G.1 ≤ m) (hs : zt_ps b L S M) (h : ∀ M', (∀ k, k ≠ 28 → k ≠ 35 → M'.1 k = M.1 k) → M'.1 28 = 0 → M'.1 35 = (if S.2.1 = 0 then -1 else nI S.2.2) → M'.2 = M.2 → Q (some (.int (nI S.2.1))) (zt_S σ m N M')) : zCall G (n + 1) 284 [.ref m] Q Y (zt_S σ m N M) := by
  have e33 : va_up M.1 28 0 33 = nI S.2.1 := (va_up_ne _ _ (by omega)).trans hs.2.2.2.2.1
  have ee : nI S.2.1 = 0 ↔ S.2.1 = 0 := by
    have := hs.e0
    rw [hs.2.2.2.2.1] at this
    exact this
  refine ze284 ⟨_, rfl, ?_⟩
  simp only [↓zt_rc, ↓zt_g0, ↓zt_g1, ↓zt_g2, ↓zt_g3, ↓zt_g4, ↓zt_g5, ↓zt_g6, ↓zt_g7, ↓zt_g8, ↓zt_g9, ↓zt_g10, ↓zt_g11, ↓zt_g12, ↓zt_g13, ↓zt_g14, ↓zt_g15, ↓zt_g16, ↓zt_g17, ↓zt_g18, ↓zt_g19, ↓zt_g20, ↓zt_g21, ↓zt_g22, ↓zt_g23, ↓zt_g24, ↓zt_g25, ↓zt_g26, ↓zt_g27, ↓zt_g28, ↓zt_g29, ↓zt_g30, ↓zt_g31, ↓zt_g32, ↓zt_g33, ↓zt_g34, ↓zt_g35, ↓zt_g36, ↓zt_g37, ↓zt_g38, ↓zt_g39, ↓zt_g40, ↓zt_p4 hm, ↓zt_p5 hm, ↓zt_p6 hm, ↓zt_p15 hm, ↓zt_p21 hm, ↓zt_p22 hm, ↓zt_p23 hm, ↓zt_p26 hm, ↓zt_p28 hm, ↓zt_p29 hm, ↓zt_p30 hm, ↓zt_p31 hm, ↓zt_p32 hm, ↓zt_p33 hm, ↓zt_p34 hm, ↓zt_p35 hm, ↓zt_p36 hm, ↓zt_p40 hm, ↓zt_p19 hm, ↓zt_p20 hm, ↓zt_a1, ↓zt_a2, ↓zt_a3, ↓zt_a4, ↓zt_a5, ↓zt_a6, ↓zt_a7, ↓zt_a8, ↓zt_a9, ↓zt_a10, ↓zt_a11, ↓zt_a12, ↓zt_a13, ↓zt_a14, ↓zt_a15, ↓zt_a16, ↓zt_a17, ↓zt_a18, ↓zt_a19, ↓zt_a20, ↓zt_a21, ↓zt_s1 hm, ↓zt_s2 hm, ↓zt_s3 hm, ↓zt_s4 hm, ↓zt_s5 hm, ↓zt_s6 hm, ↓zt_s7 hm, ↓zt_s8 hm, ↓zt_s9 hm, ↓zt_s10 hm, ↓zt_s11 hm, ↓zt_s12 hm, ↓zt_s16 hm, ↓zt_s17 hm, ↓zt_s18 hm, ↓zt_s20 hm, ↓zt_s13 hm, ↓zt_s14 hm, ↓zt_s15 hm, ↓zt_s21 hm, ↓zt_l19, ↓zt_l17, forall_eq, ↓zqI_r, ↓zqL_r, ↓zqD_r, ↓zqF_r, ↓zqV_r, ↓zqR_r, ↓zqR_s, zboolb, zbool0, zbool1, true_and, and_true, e33, zJ, ee]
  have go : ∀ x : Int32, x = (if S.2.1 = 0 then -1 else nI S.2.2) → Q (some (.int (va_up (va_up M.1 28 0) 35 x 33))) (zt_S σ m N ((M.sI 28 0).sI 35 x)) := by
    intro x hx
    have e9 : va_up (va_up M.1 28 0) 35 x 33 = nI S.2.1 := (va_up_ne _ _ (by omega)).trans e33
    rw [e9]
    refine h _ (fun k h1 h2 => ?_) ?_ ?_ rfl
    · show va_up (va_up M.1 28 0) 35 x k = _
      rw [va_up_ne _ _ h2, va_up_ne _ _ h1]
    · show va_up (va_up M.1 28 0) 35 x 28 = _
      rw [va_up_ne _ _ (by omega), va_up_self]
    · show va_up (va_up M.1 28 0) 35 x 35 = _
      rw [va_up_self, hx]
  refine ⟨fun hn => ?_, fun hy => ?_⟩
  · refine go _ ?_
    rw [if_neg hn]
    exact (va_up_ne _ _ (by omega)).trans (hs.2.2.2.2.2 hn)
  · refine go _ ?_
    rw [if_pos hy]
end ZLD
