/-! READING TEXTS: the reference's scanner and its small steps -/
theorem zg1 {F : (zS → Prop) → zS → Prop} (I : Nat → zS → Prop) (hs : ∀ (rec : zS → Prop) q s, I q s → (∀ q' s', q' < q → I q' s' → rec s') → F rec s) {q : Nat} {s : zS} (h : I q s) : ∃ n, zIt (fun _ => False) F n s := by
  have key : ∀ (n q : Nat) (s : zS), q < n → I q s → zIt (fun _ => False) F n s := by
    intro n
    induction n with
    | zero => intro q s h; exact absurd h (Nat.not_lt_zero _)
    | succ n ih => intro q s h1 h2; exact hs _ q s h2 (fun q' s' h3 h4 => ih q' s' (by omega) h4)
  exact ⟨_, key _ q s (Nat.lt_succ_self _) h⟩
theorem zg2 {τ : Type} {F : (τ → zS → Prop) → τ → zS → Prop} (I : Nat → τ → zS → Prop) (hs : ∀ (rec : τ → zS → Prop) q x s, I q x s → (∀ q' x' s', q' < q → I q' x' s' → rec x' s') → F rec x s) {q : Nat} {x : τ} {s : zS} (h : I q x s) : ∃ n, zIt (fun _ _ => False) F n x s := by
  have key : ∀ (n q : Nat) (x : τ) (s : zS), q < n → I q x s → zIt (fun _ _ => False) F n x s := by
    intro n
    induction n with
    | zero => intro q x s h; exact absurd h (Nat.not_lt_zero _)
    | succ n ih => intro q x s h1 h2; exact hs _ q x s h2 (fun q' x' s' h3 h4 => ih q' x' s' (by omega) h4)
  exact ⟨_, key _ q x s (Nat.lt_succ_self _) h⟩
section ZPR
variable {G : zPg} {n : Nat} {σ : zS} {m : Nat} {N : Nat → Option Nat} {M M0 : zt_M} {Q : zQ} {Y : zY} {V : zs_V} {b : Nat → Nat} {L : Nat}
theorem zt_run (hm : G.1 ≤ m) {c : Nat → Bool} {K : Nat} {t : Int32} (hl : ∀ (M1 : zt_M) (p : Nat) (Q : zQ), zt_tx b L M1 → p ≤ 1000 → (zCall G (n + 2) K [.ref m, .int (nI p)] Q Y (zt_S σ m N M1) ↔ Q (some (.int (zs_b (p < L ∧ c p = true)))) (zt_S σ m N M1))) (ht : zt_tx b L M) {p0 : Nat} (hp : M.1 30 = nI p0) (hp0 : p0 ≤ L) (h : ∀ M', zt_sk M M' → M'.1 31 = M.1 31 → M'.1 30 = nI (zp_run c L 501 p0) → M'.1 32 = t → Q none (zt_S σ m N M')) : ∃ n', zIt (fun _ => False) (fun (rec127 : zS → Prop) (s126 : zS) => zgI s126 (some m) 4 30 (fun v128 => zrc s126 (some m) 4 (fun a137 => zcl (zCall G (n + 2)) K [.ref a137, .int v128] Y s126 (zqI (fun v134 s135 => ((v134 = 0) → zput s135 G.1 (some m) 4 32 (.int t) (fun s142 => Q none s142)) ∧ ((¬ v134 = 0) → zgI s135 (some m) 4 30 (fun v150 => zput s135 G.1 (some m) 4 30 (.int (v150 + (1))) (fun s156 => rec127 s156)))))))) n' (zt_S σ m N M) := by
  refine zg1 (fun q s' => ∃ M1 p, s' = zt_S σ m N M1 ∧ zt_sk M M1 ∧ M1.1 31 = M.1 31 ∧ M1.1 30 = nI p ∧ p ≤ L ∧ zp_run c L 501 p = zp_run c L 501 p0 ∧ q = L - p) ?_ ⟨M, p0, rfl, zt_sk.rfl', rfl, hp, hp0, rfl, rfl⟩
  rintro rec q s' ⟨M1, p, rfl, a2, a3, a4, a5, a6, a7⟩ hrec
  have hL := ht.1
  simp only [↓zt_rc, ↓zt_g0, ↓zt_g1, ↓zt_g2, ↓zt_g3, ↓zt_g4, ↓zt_g5, ↓zt_g6, ↓zt_g7, ↓zt_g8, ↓zt_g9, ↓zt_g10, ↓zt_g11, ↓zt_g12, ↓zt_g13, ↓zt_g14, ↓zt_g15, ↓zt_g16, ↓zt_g17, ↓zt_g18, ↓zt_g19, ↓zt_g20, ↓zt_g21, ↓zt_g22, ↓zt_g23, ↓zt_g24, ↓zt_g25, ↓zt_g26, ↓zt_g27, ↓zt_g28, ↓zt_g29, ↓zt_g30, ↓zt_g31, ↓zt_g32, ↓zt_g33, ↓zt_g34, ↓zt_g35, ↓zt_g36, ↓zt_g37, ↓zt_g38, ↓zt_g39, ↓zt_g40, ↓zt_p4 hm, ↓zt_p5 hm, ↓zt_p6 hm, ↓zt_p15 hm, ↓zt_p21 hm, ↓zt_p22 hm, ↓zt_p23 hm, ↓zt_p26 hm, ↓zt_p28 hm, ↓zt_p29 hm, ↓zt_p30 hm, ↓zt_p31 hm, ↓zt_p32 hm, ↓zt_p33 hm, ↓zt_p34 hm, ↓zt_p35 hm, ↓zt_p36 hm, ↓zt_p40 hm, ↓zt_p19 hm, ↓zt_p20 hm, ↓zt_a1, ↓zt_a2, ↓zt_a3, ↓zt_a4, ↓zt_a5, ↓zt_a6, ↓zt_a7, ↓zt_a8, ↓zt_a9, ↓zt_a10, ↓zt_a11, ↓zt_a12, ↓zt_a13, ↓zt_a14, ↓zt_a15, ↓zt_a16, ↓zt_a17, ↓zt_a18, ↓zt_a19, ↓zt_a20, ↓zt_a21, ↓zt_s1 hm, ↓zt_s2 hm, ↓zt_s3 hm, ↓zt_s4 hm, ↓zt_s5 hm, ↓zt_s6 hm, ↓zt_s7 hm, ↓zt_s8 hm, ↓zt_s9 hm, ↓zt_s10 hm, ↓zt_s11 hm, ↓zt_s12 hm, ↓zt_s16 hm, ↓zt_s17 hm, ↓zt_s18 hm, ↓zt_s20 hm, ↓zt_s13 hm, ↓zt_s14 hm, ↓zt_s15 hm, ↓zt_s21 hm, ↓zt_l19, ↓zt_l17, forall_eq, ↓zqI_r, ↓zqL_r, ↓zqD_r, ↓zqF_r, ↓zqV_r, ↓zqR_r, ↓zqR_s, zboolb, zbool0, zbool1, true_and, and_true, a4, ↓hl M1 p _ (ht.sk a2) (show p ≤ 1000 by omega), zs_b0, Classical.not_not, nI_1]
  refine ⟨fun hn => h _ (a2.trans (zt_sk.i (by omega))) ?_ ?_ rfl, fun hc => hrec (L - (p + 1)) _ ?_ ⟨_, p + 1, rfl, a2.trans (zt_sk.i (by omega)), ?_, rfl, ?_, ?_, rfl⟩⟩
  · show va_up M1.1 32 t 31 = _
    rw [va_up_ne _ _ (by omega)]
    exact a3
  · show va_up M1.1 32 t 30 = _
    rw [va_up_ne _ _ (by omega), a4, ← a6, zp_run_stop hn]
  · have := hc.1
    omega
  · show va_up M1.1 30 (nI (p + 1)) 31 = _
    rw [va_up_ne _ _ (by omega)]
    exact a3
  · exact hc.1
  · rw [← a6, zp_run_step hL hc]
theorem zt_266 (hm : G.1 ≤ m) (ht : zt_tx b L M) {p0 : Nat} (hp : M.1 30 = nI p0) (hp0 : p0 ≤ L) (h : ∀ M', zt_sk M M' → zt_tk (zp_tok b L p0) M' → Q none (zt_S σ m N M')) : zCall G (n + 3) 266 [.ref m] Q Y (zt_S σ m N M) := by
  have hL := ht.1
  refine ze266 ⟨_, rfl, zg1 (fun q s' => ∃ M1 p, s' = zt_S σ m N M1 ∧ zt_sk M M1 ∧ M1.1 30 = nI p ∧ p ≤ L ∧ zp_run (fun i => zp_sp (b i)) L 501 p = zp_run (fun i => zp_sp (b i)) L 501 p0 ∧ q = L - p) ?_ ⟨M, p0, rfl, zt_sk.rfl', hp, hp0, rfl, rfl⟩⟩
  rintro rec q s' ⟨M1, p, rfl, a2, a4, a5, a6, a7⟩ hrec
  have ht1 := ht.sk a2
  have hp1 : p ≤ 1000 := by omega
  have ht2 : zt_tx b L (M1.sI 31 (nI p)) := ht1.sk (zt_sk.i (by omega))
  have e30 : va_up M1.1 31 (nI p) 30 = nI p := (va_up_ne _ _ (by omega)).trans a4
  have e29 : va_up M1.1 31 (nI p) 29 = nI L := (va_up_ne _ _ (by omega)).trans ht1.2.1
  have cc : ∀ k, k < 256 → ((if p < L then nI (b p) else -1) = nI k ↔ (p < L ∧ b p = k)) := by
    intro k hk
    by_cases g : p < L
    · have := (ht.2.2 p g).2
      rw [if_pos g, nI_eq (by omega) (by omega)]
      exact ⟨fun e => ⟨g, e⟩, fun e => e.2⟩
    · rw [if_neg g]
      have h9 : ∀ k, k < 256 → ¬ (-1 : Int32) = nI k := by decide +kernel
      exact ⟨fun e => absurd e (h9 k hk), fun e => absurd e.1 g⟩
  have c32 : ((if p < L then nI (b p) else -1) = (32 : Int32)) ↔ (p < L ∧ b p = 32) := cc 32 (by omega)
  have c10 : ((if p < L then nI (b p) else -1) = (10 : Int32)) ↔ (p < L ∧ b p = 10) := cc 10 (by omega)
  have cl : nI p < nI L ↔ p < L := nI_ltI (by omega) (by omega)
  have hgo : (p < L ∧ zp_sp (b p) = true) → rec (zt_S σ m N (M1.sI 30 (nI (p + 1)))) := by
    intro hc
    refine hrec (L - (p + 1)) _ ?_ ⟨_, p + 1, rfl, a2.trans (zt_sk.i (by omega)), rfl, hc.1, ?_, rfl⟩
    · have := hc.1
      omega
    · rw [← a6, zp_run_step (c := fun i => zp_sp (b i)) hL hc]
  simp only [↓zt_rc, ↓zt_g0, ↓zt_g1, ↓zt_g2, ↓zt_g3, ↓zt_g4, ↓zt_g5, ↓zt_g6, ↓zt_g7, ↓zt_g8, ↓zt_g9, ↓zt_g10, ↓zt_g11, ↓zt_g12, ↓zt_g13, ↓zt_g14, ↓zt_g15, ↓zt_g16, ↓zt_g17, ↓zt_g18, ↓zt_g19, ↓zt_g20, ↓zt_g21, ↓zt_g22, ↓zt_g23, ↓zt_g24, ↓zt_g25, ↓zt_g26, ↓zt_g27, ↓zt_g28, ↓zt_g29, ↓zt_g30, ↓zt_g31, ↓zt_g32, ↓zt_g33, ↓zt_g34, ↓zt_g35, ↓zt_g36, ↓zt_g37, ↓zt_g38, ↓zt_g39, ↓zt_g40, ↓zt_p4 hm, ↓zt_p5 hm, ↓zt_p6 hm, ↓zt_p15 hm, ↓zt_p21 hm, ↓zt_p22 hm, ↓zt_p23 hm, ↓zt_p26 hm, ↓zt_p28 hm, ↓zt_p29 hm, ↓zt_p30 hm, ↓zt_p31 hm, ↓zt_p32 hm, ↓zt_p33 hm, ↓zt_p34 hm, ↓zt_p35 hm, ↓zt_p36 hm, ↓zt_p40 hm, ↓zt_p19 hm, ↓zt_p20 hm, ↓zt_a1, ↓zt_a2, ↓zt_a3, ↓zt_a4, ↓zt_a5, ↓zt_a6, ↓zt_a7, ↓zt_a8, ↓zt_a9, ↓zt_a10, ↓zt_a11, ↓zt_a12, ↓zt_a13, ↓zt_a14, ↓zt_a15, ↓zt_a16, ↓zt_a17, ↓zt_a18, ↓zt_a19, ↓zt_a20, ↓zt_a21, ↓zt_s1 hm, ↓zt_s2 hm, ↓zt_s3 hm, ↓zt_s4 hm, ↓zt_s5 hm, ↓zt_s6 hm, ↓zt_s7 hm, ↓zt_s8 hm, ↓zt_s9 hm, ↓zt_s10 hm, ↓zt_s11 hm, ↓zt_s12 hm, ↓zt_s16 hm, ↓zt_s17 hm, ↓zt_s18 hm, ↓zt_s20 hm, ↓zt_s13 hm, ↓zt_s14 hm, ↓zt_s15 hm, ↓zt_s21 hm, ↓zt_l19, ↓zt_l17, forall_eq, ↓zqI_r, ↓zqL_r, ↓zqD_r, ↓zqF_r, ↓zqV_r, ↓zqR_r, ↓zqR_s, zboolb, zbool0, zbool1, true_and, and_true, a4, zJ, ↓zl_267 ht1 hp1, c32, c10, e30, e29, cl, ↓zl_268 ht2 hp1, ↓zl_269 ht2 hp1, zs_b0, Classical.not_not, nI_1]
  refine ⟨fun hc => hgo ⟨hc.1, decide_eq_true (Or.inl hc.2)⟩, fun hn1 => ⟨fun hn2 => ?_, fun hc => hgo ⟨hc.1, decide_eq_true (Or.inr hc.2)⟩⟩⟩
  have hst : zp_run (fun i => zp_sp (b i)) L 501 p0 = p := by
    rw [← a6]
    refine zp_run_stop fun hc => ?_
    rcases of_decide_eq_true hc.2 with e | e
    · exact hn1 ⟨hc.1, e⟩
    · exact hn2 ⟨hc.1, e⟩
  have hk2 : zt_sk M (M1.sI 31 (nI p)) := a2.trans (zt_sk.i (by omega))
  have e31 : va_up M1.1 31 (nI p) 31 = nI p := va_up_self _ _ _
  have tk : zp_tok b L p0 = if ¬ p < L then (0, p, p) else if zp_let (b p) = true then (1, p, zp_run (fun i => zp_let (b i)) L 501 p) else if zp_dig (b p) = true then (2, p, zp_run (fun i => zp_dig (b i)) L 501 p) else (3, p, p + 1) := by
    unfold zp_tok
    rw [hst]
  refine ⟨fun hlt => ⟨fun hnl => ⟨fun hnd => ?_, fun hd => ?_⟩, fun hle => ?_⟩, fun hn => ?_⟩
  · refine h _ ((hk2.trans (zt_sk.i (by omega))).trans (zt_sk.i (by omega))) ?_
    rw [tk, if_neg (fun h9 => h9 hlt), if_neg (fun h9 => hnl ⟨hlt, h9⟩), if_neg (fun h9 => hnd ⟨hlt, h9⟩)]
    refine ⟨rfl, ?_, ?_⟩
    · show va_up (va_up (va_up M1.1 31 (nI p)) 30 (nI (p + 1))) 32 3 31 = _
      rw [va_up_ne _ _ (by omega), va_up_ne _ _ (by omega), va_up_self]
    · show va_up (va_up (va_up M1.1 31 (nI p)) 30 (nI (p + 1))) 32 3 30 = _
      rw [va_up_ne _ _ (by omega), va_up_self]
  · refine zt_run hm (c := fun i => zp_dig (b i)) (K := 269) (Y := Y) (fun M2 p2 Q2 g1 g2 => zl_269 g1 g2) ht2 e30 a5 ?_
    intro M' k1 k2 k3 k4
    refine h _ (hk2.trans k1) ?_
    rw [tk, if_neg (fun h9 => h9 hlt), if_neg (fun h9 => hnl ⟨hlt, h9⟩), if_pos hd.2]
    exact ⟨k4, k2.trans e31, k3⟩
  · refine zt_run hm (c := fun i => zp_let (b i)) (K := 268) (Y := Y) (fun M2 p2 Q2 g1 g2 => zl_268 g1 g2) ht2 e30 a5 ?_
    intro M' k1 k2 k3 k4
    refine h _ (hk2.trans k1) ?_
    rw [tk, if_neg (fun h9 => h9 hlt), if_pos hle.2]
    exact ⟨k4, k2.trans e31, k3⟩
  · refine h _ (hk2.trans (zt_sk.i (by omega))) ?_
    rw [tk, if_pos hn]
    refine ⟨rfl, ?_, ?_⟩
    · show va_up (va_up M1.1 31 (nI p)) 32 0 31 = _
      rw [va_up_ne _ _ (by omega), va_up_self]
    · show va_up (va_up M1.1 31 (nI p)) 32 0 30 = _
      rw [va_up_ne _ _ (by omega), e30]
end ZPR
