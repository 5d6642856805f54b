/-! THE REFERENCE: play, lists, undo -/
theorem zs_sim.thr {V W : zs_V} (h : zs_sim V W) : zs_thr W = zs_thr V := by unfold zs_thr; rw [h 2 (by omega)]
theorem zs_sim.rest {V W : zs_V} (h : zs_sim V W) (hn : zs_n V ≤ 10) (s : Nat) : zs_rest W s = zs_rest V s := by unfold zs_rest; rw [h.cap, h.w hn (by omega)]
theorem zs_sim.can {V W : zs_V} (h : zs_sim V W) (hn : zs_n V ≤ 10) (s : Nat) : zs_can W s = zs_can V s := by
  unfold zs_can
  rw [h.n]
  have key : ∀ k, k ≤ 10 → zs_canb W s k = zs_canb V s k := by
    intro k
    induction k with
    | zero => intro _; rfl
    | succ k ih => intro hk; simp only [zs_canb, ih (by omega), h.p (show k < 10 by omega) (show 0 ≤ 3 by omega), h.rest hn]
  exact key _ hn
theorem zs_sim.may {V W : zs_V} (h : zs_sim V W) (hn : zs_n V ≤ 10) {k : Nat} (hk : k < 10) (s t : Nat) : zs_may W s t k = zs_may V s t k := by
  unfold zs_may
  rw [h.p hk (by omega), h.rest hn, h.thr]
theorem zs_sim.gn {V W : zs_V} (h : zs_sim V W) {k : Nat} (hk : k < 10) (t : Nat) : zs_gn W t k = zs_gn V t k := by
  unfold zs_gn
  rw [h.p hk (by omega), h.p hk (by omega)]
theorem zs_sim.olf {V W : zs_V} (h : zs_sim V W) (hn : zs_n V ≤ 10) {f g : Nat → Int} {s t : Nat} {b0 : Int} : ∀ {n : Nat}, n ≤ 10 → (∀ k, k < n → f k = g k) → zs_olf W f s t b0 n = zs_olf V g s t b0 n
  | 0, _, _ => rfl
  | n + 1, h1, h2 => by
    have ih := zs_sim.olf h hn (f := f) (g := g) (s := s) (t := t) (b0 := b0) (n := n) (by omega) (fun k hk => h2 k (by omega))
    simp only [zs_olf, ih, h.may hn (show n < 10 by omega), h2 n (by omega)]
theorem zs_sim.ol {V W : zs_V} (h : zs_sim V W) (hn : zs_n V ≤ 10) : ∀ (q s t pa : Nat), zs_ol W q s t pa = zs_ol V q s t pa
  | 0, _, _, _ => rfl
  | q + 1, s, t, pa => by
    rw [zs_ol_s, zs_ol_s, h.can hn, h.n, zs_sim.ol h hn q s (1 - t) 1]
    rw [h.olf hn (g := fun k => zs_gn V t k + zs_ol V q (s ||| 2 ^ k) (1 - t) 0) hn (fun k hk => by rw [h.gn (by omega), zs_sim.ol h hn q])]
theorem zs_sim.O {V W : zs_V} (h : zs_sim V W) (hn : zs_n V ≤ 10) (s t pa : Nat) : zs_O W s t pa = zs_O V s t pa := zs_sim.ol h hn 64 s t pa
theorem zs_sim.refl (V : zs_V) : zs_sim V V := fun _ _ => rfl
theorem zs_sim.trans {V W X : zs_V} (h : zs_sim V W) (h' : zs_sim W X) : zs_sim V X := fun k hk => (h' k hk).trans (h k hk)
/-- the move of a game that isn't over -/
def zs_mvn (V : zs_V) : Option Nat := zs_mv V (zs_us V) (zs_tu V) (zs_pa V) (zs_n V)
theorem zs_mv_lt {V : zs_V} {s t pa i : Nat} : ∀ {n : Nat}, zs_mv V s t pa n = some i → i < n ∧ zs_may V s t i = true
  | 0, h => by cases h
  | n + 1, h => by
    simp only [zs_mv] at h
    cases hm : zs_mv V s t pa n with
    | some j =>
      rw [hm] at h
      have e : j = i := Option.some.inj h
      have := zs_mv_lt hm
      subst e
      exact ⟨by omega, this.2⟩
    | none =>
      rw [hm] at h
      by_cases hc : zs_may V s t n = true ∧ zs_gn V t n + zs_O V (s ||| 2 ^ n) (1 - t) 0 = zs_O V s t pa
      · simp only [if_pos hc] at h
        have e : n = i := Option.some.inj h
        subst e
        exact ⟨by omega, hc.1⟩
      · simp only [if_neg hc] at h
        cases h
def zs_step (V : zs_V) : zs_V := match zs_mvn V with
  | some k => zs_mkt V k
  | none => zs_mkp V
def zs_play : Nat → zs_V → Nat × zs_V
  | 0, V => (0, V)
  | q + 1, V => if zs_ov V = true then (0, V) else ((zs_play q (zs_step V)).1 + 1, (zs_play q (zs_step V)).2)
theorem zs_step_ok {V : zs_V} (h : zs_ok V) (hov : zs_ov V = false) : zs_ok (zs_step V) := by
  unfold zs_step
  cases hm : zs_mvn V with
  | some k => exact zs_mkt_ok h (zs_mv_lt hm).1
  | none =>
    refine zs_mkp_ok h (fun e => ?_)
    unfold zs_ov at hov
    rw [e] at hov
    simp at hov
theorem zs_step_sim {V : zs_V} (h : zs_ok V) : zs_sim V (zs_step V) := by
  unfold zs_step
  cases zs_mvn V with
  | some k => exact zs_mkt_sim h.tu.2 k
  | none => exact zs_mkp_sim V
section ZTA
variable {G : zPg} {n : Nat} {σ : zS} {m : Nat} {N : Nat → Option Nat} {M M0 : zt_M} {Q : zQ} {Y : zY} {V : zs_V} {u : Nat} {H : Nat → zs_V}
theorem zs_pa1 {V : zs_V} (h : zs_ok V) (hov : zs_ov V = false) : zs_pa V ≤ 1 := by
  have h1 := h.pa.2
  have h2 : zs_pa V ≠ 2 := by
    intro e
    unfold zs_ov at hov
    rw [e] at hov
    simp at hov
  omega
def zs_mo (o : Option Nat) : Int32 := match o with
  | some k => nI k
  | none => -1
theorem zt_231 (hM : M.2.2.1 1 = V) (hV : zs_ok V) (hov : zs_ov V = false) (hl : zt_ly V M (zs_all V)) (htb : ∀ s t pa, s < zs_all V → t ≤ 1 → pa ≤ 1 → zt_tb V M s t pa) (h : Q (some (.int (zs_mo (zs_mvn V)))) (zt_S σ m N M)) : zCall G (n + 3) 231 [.ref m] Q Y (zt_S σ m N M) := by
  have hn := hV.n0
  have hA := hV.all
  have hu := hV.us
  have ht := hV.tu
  have hp := hV.pa
  have hp1 := zs_pa1 hV hov
  have ho := zs_O_b hV (zs_us V) (zs_tu V) (zs_pa V)
  have htb0 := htb (zs_us V) (zs_tu V) (zs_pa V) hu.2.1 ht.2 hp1
  unfold zt_tb at htb0
  have hx := zx_ol (zs_us V) (zs_tu V) (zs_pa V)
  have hc : (nI (4 * zs_us V + 2 * zs_tu V + zs_pa V)).toNatClampNeg = 4 * zs_us V + 2 * zs_tu V + zs_pa V := nI_cl (by omega)
  refine ze231 ⟨_, rfl, ?_⟩
  simp only [↓zt_rc, ↓zt_g0, ↓zt_g1, ↓zt_g2, ↓zt_g3, ↓zt_g4, ↓zt_g5, ↓zt_g6, ↓zt_g7, ↓zt_g8, ↓zt_g9, ↓zt_g10, ↓zt_g11, ↓zt_g12, ↓zt_g13, ↓zt_g14, ↓zt_g15, ↓zt_g16, ↓zt_g17, ↓zt_g18, ↓zt_g19, ↓zt_g20, ↓zt_g21, ↓zt_g22, ↓zt_g23, ↓zt_g24, ↓zt_g25, ↓zt_g26, ↓zt_g27, ↓zt_g28, ↓zt_g29, ↓zt_g30, ↓zt_g31, ↓zt_g32, ↓zt_g33, ↓zt_g34, ↓zt_g35, ↓zt_g36, ↓zt_g37, ↓zt_g38, ↓zt_g39, ↓zt_g40, ↓zt_a1, ↓zt_a2, ↓zt_a3, ↓zt_a4, ↓zt_a5, ↓zt_a6, ↓zt_a7, ↓zt_a8, ↓zt_a9, ↓zt_a10, ↓zt_a11, ↓zt_a12, ↓zt_a13, ↓zt_a14, ↓zt_a15, ↓zt_a16, ↓zt_a17, ↓zt_a18, ↓zt_a19, ↓zt_a20, ↓zt_a21, ↓zt_l19, ↓zt_l17, forall_eq, ↓zqI_r, ↓zqL_r, ↓zqD_r, ↓zqF_r, ↓zqV_r, ↓zqR_r, ↓zqR_s, zboolb, zbool0, zbool1, true_and, and_true, zi_0, zj_0, zi_1, zj_1, zi_2, zj_2, zi_3, zj_3, zi_4, zj_4, zi_5, zj_5, zi_6, zj_6, zi_7, zj_7, zi_8, zj_8, zi_9, zj_9, zi_10, zj_10, true_and, and_true, ↓zl_216, ↓zl_226, hM, hu.1, ht.1, hp.1, hx, hc, htb0]
  refine ⟨nI_i (by omega) (by omega), ?_⟩
  refine zf2 0 (zs_n V) (fun k s' => s' = zt_S σ m N M ∧ zs_mv V (zs_us V) (zs_tu V) (zs_pa V) k = none) (by omega) ?_ ?_ ⟨rfl, rfl⟩
  · rintro rec k s' _ hk ⟨rfl, hno⟩ hrec
    have hg := zs_gn_b hV (t := zs_tu V) hk
    have ho2 := zs_O_b hV (zs_us V ||| 2 ^ k) (1 - zs_tu V) 0
    simp only [↓zt_rc, ↓zt_g0, ↓zt_g1, ↓zt_g2, ↓zt_g3, ↓zt_g4, ↓zt_g5, ↓zt_g6, ↓zt_g7, ↓zt_g8, ↓zt_g9, ↓zt_g10, ↓zt_g11, ↓zt_g12, ↓zt_g13, ↓zt_g14, ↓zt_g15, ↓zt_g16, ↓zt_g17, ↓zt_g18, ↓zt_g19, ↓zt_g20, ↓zt_g21, ↓zt_g22, ↓zt_g23, ↓zt_g24, ↓zt_g25, ↓zt_g26, ↓zt_g27, ↓zt_g28, ↓zt_g29, ↓zt_g30, ↓zt_g31, ↓zt_g32, ↓zt_g33, ↓zt_g34, ↓zt_g35, ↓zt_g36, ↓zt_g37, ↓zt_g38, ↓zt_g39, ↓zt_g40, ↓zt_a1, ↓zt_a2, ↓zt_a3, ↓zt_a4, ↓zt_a5, ↓zt_a6, ↓zt_a7, ↓zt_a8, ↓zt_a9, ↓zt_a10, ↓zt_a11, ↓zt_a12, ↓zt_a13, ↓zt_a14, ↓zt_a15, ↓zt_a16, ↓zt_a17, ↓zt_a18, ↓zt_a19, ↓zt_a20, ↓zt_a21, ↓zt_l19, ↓zt_l17, forall_eq, ↓zqI_r, ↓zqL_r, ↓zqD_r, ↓zqF_r, ↓zqV_r, ↓zqR_r, ↓zqR_s, zboolb, zbool0, zbool1, true_and, and_true, zi_0, zj_0, zi_1, zj_1, zi_2, zj_2, zi_3, zj_3, zi_4, zj_4, zi_5, zj_5, zi_6, zj_6, zi_7, zj_7, zi_8, zj_8, zi_9, zj_9, zi_10, zj_10, true_and, and_true, ↓zl_159, ↓zl_216, zJ, hM, hn.1, hu.1, ht.1, hp.1]
    refine ⟨fun hle => absurd hle (nI_ge hk (by omega)), fun _ => zt_223 hM hV hl hu.2.1 ht.2 hk ?_⟩
    simp only [↓zt_rc, ↓zt_g0, ↓zt_g1, ↓zt_g2, ↓zt_g3, ↓zt_g4, ↓zt_g5, ↓zt_g6, ↓zt_g7, ↓zt_g8, ↓zt_g9, ↓zt_g10, ↓zt_g11, ↓zt_g12, ↓zt_g13, ↓zt_g14, ↓zt_g15, ↓zt_g16, ↓zt_g17, ↓zt_g18, ↓zt_g19, ↓zt_g20, ↓zt_g21, ↓zt_g22, ↓zt_g23, ↓zt_g24, ↓zt_g25, ↓zt_g26, ↓zt_g27, ↓zt_g28, ↓zt_g29, ↓zt_g30, ↓zt_g31, ↓zt_g32, ↓zt_g33, ↓zt_g34, ↓zt_g35, ↓zt_g36, ↓zt_g37, ↓zt_g38, ↓zt_g39, ↓zt_g40, ↓zt_a1, ↓zt_a2, ↓zt_a3, ↓zt_a4, ↓zt_a5, ↓zt_a6, ↓zt_a7, ↓zt_a8, ↓zt_a9, ↓zt_a10, ↓zt_a11, ↓zt_a12, ↓zt_a13, ↓zt_a14, ↓zt_a15, ↓zt_a16, ↓zt_a17, ↓zt_a18, ↓zt_a19, ↓zt_a20, ↓zt_a21, ↓zt_l19, ↓zt_l17, forall_eq, ↓zqI_r, ↓zqL_r, ↓zqD_r, ↓zqF_r, ↓zqV_r, ↓zqR_r, ↓zqR_s, zboolb, zbool0, zbool1, true_and, and_true, zi_0, zj_0, zi_1, zj_1, zi_2, zj_2, zi_3, zj_3, zi_4, zj_4, zi_5, zj_5, zi_6, zj_6, zi_7, zj_7, zi_8, zj_8, zi_9, zj_9, zi_10, zj_10, true_and, and_true, ↓zl_216, zs_b0, Classical.not_not, hM, hu.1, ht.1, hp.1]
    refine ⟨fun hmy => hrec _ ⟨rfl, ?_⟩, fun hmy => ?_⟩
    · simp only [zs_mv, hno]
      rw [if_neg (fun h9 => hmy h9.1)]
    · refine zt_228t hM hV hu.2.1 ht.2 hk (htb _ _ _ (zs_or_lt hu.2.1 hk) (by omega) (by omega)) ?_
      simp only [forall_eq, ↓zqI_r, ↓zqL_r, ↓zqD_r, ↓zqF_r, ↓zqV_r, ↓zqR_r, ↓zqR_s]
      rw [iI_eq (by omega) (by omega) (by omega) (by omega)]
      refine ⟨fun hne => hrec _ ⟨rfl, ?_⟩, fun he => ?_⟩
      · simp only [zs_mv, hno]
        rw [if_neg (fun h9 => hne h9.2)]
      · have : zs_mvn V = some k := by
          have h3 : zs_mv V (zs_us V) (zs_tu V) (zs_pa V) (k + 1) = some k := by
            simp only [zs_mv, hno]
            rw [if_pos ⟨hmy, he⟩]
          have mono : ∀ j i, zs_mv V (zs_us V) (zs_tu V) (zs_pa V) i = some k → zs_mv V (zs_us V) (zs_tu V) (zs_pa V) (i + j) = some k := by
            intro j
            induction j with
            | zero => intro i h; exact h
            | succ j ih =>
              intro i h
              rw [show i + (j + 1) = (i + j) + 1 by omega]
              simp only [zs_mv, ih i h]
          have h4 := mono (zs_n V - (k + 1)) (k + 1) h3
          rw [show k + 1 + (zs_n V - (k + 1)) = zs_n V by omega] at h4
          exact h4
        rw [this] at h
        exact h
  · rintro rec s' ⟨rfl, hno⟩
    have : zs_mvn V = none := hno
    rw [this] at h
    simp only [↓zt_rc, ↓zt_g0, ↓zt_g1, ↓zt_g2, ↓zt_g3, ↓zt_g4, ↓zt_g5, ↓zt_g6, ↓zt_g7, ↓zt_g8, ↓zt_g9, ↓zt_g10, ↓zt_g11, ↓zt_g12, ↓zt_g13, ↓zt_g14, ↓zt_g15, ↓zt_g16, ↓zt_g17, ↓zt_g18, ↓zt_g19, ↓zt_g20, ↓zt_g21, ↓zt_g22, ↓zt_g23, ↓zt_g24, ↓zt_g25, ↓zt_g26, ↓zt_g27, ↓zt_g28, ↓zt_g29, ↓zt_g30, ↓zt_g31, ↓zt_g32, ↓zt_g33, ↓zt_g34, ↓zt_g35, ↓zt_g36, ↓zt_g37, ↓zt_g38, ↓zt_g39, ↓zt_g40, ↓zt_a1, ↓zt_a2, ↓zt_a3, ↓zt_a4, ↓zt_a5, ↓zt_a6, ↓zt_a7, ↓zt_a8, ↓zt_a9, ↓zt_a10, ↓zt_a11, ↓zt_a12, ↓zt_a13, ↓zt_a14, ↓zt_a15, ↓zt_a16, ↓zt_a17, ↓zt_a18, ↓zt_a19, ↓zt_a20, ↓zt_a21, ↓zt_l19, ↓zt_l17, forall_eq, ↓zqI_r, ↓zqL_r, ↓zqD_r, ↓zqF_r, ↓zqV_r, ↓zqR_r, ↓zqR_s, zboolb, zbool0, zbool1, true_and, and_true, ↓zl_159, hM, hn.1]
    exact ⟨fun _ => h, fun hn => absurd (nI_le (Nat.le_refl _) (by omega)) hn⟩
theorem zt_230 (hm : G.1 ≤ m) (hM : M.2.2.1 1 = V) (hV : zs_ok V) (h : ∀ M', zt_pe 0 M M' → Q (some (.int (if zs_ov V = true then -2 else zs_mo (zs_mvn V)))) (zt_S σ m N M')) : zCall G (n + 5) 230 [.ref m] Q Y (zt_S σ m N M) := by
  have hu := hV.us
  refine ze230 ⟨_, rfl, ?_⟩
  simp only [↓zt_rc, ↓zt_g0, ↓zt_g1, ↓zt_g2, ↓zt_g3, ↓zt_g4, ↓zt_g5, ↓zt_g6, ↓zt_g7, ↓zt_g8, ↓zt_g9, ↓zt_g10, ↓zt_g11, ↓zt_g12, ↓zt_g13, ↓zt_g14, ↓zt_g15, ↓zt_g16, ↓zt_g17, ↓zt_g18, ↓zt_g19, ↓zt_g20, ↓zt_g21, ↓zt_g22, ↓zt_g23, ↓zt_g24, ↓zt_g25, ↓zt_g26, ↓zt_g27, ↓zt_g28, ↓zt_g29, ↓zt_g30, ↓zt_g31, ↓zt_g32, ↓zt_g33, ↓zt_g34, ↓zt_g35, ↓zt_g36, ↓zt_g37, ↓zt_g38, ↓zt_g39, ↓zt_g40, ↓zt_p4 hm, ↓zt_p5 hm, ↓zt_p6 hm, ↓zt_p15 hm, ↓zt_p21 hm, ↓zt_p22 hm, ↓zt_p23 hm, ↓zt_p26 hm, ↓zt_p28 hm, ↓zt_p29 hm, ↓zt_p30 hm, ↓zt_p31 hm, ↓zt_p32 hm, ↓zt_p33 hm, ↓zt_p34 hm, ↓zt_p35 hm, ↓zt_p36 hm, ↓zt_p40 hm, ↓zt_p19 hm, ↓zt_p20 hm, ↓zt_a1, ↓zt_a2, ↓zt_a3, ↓zt_a4, ↓zt_a5, ↓zt_a6, ↓zt_a7, ↓zt_a8, ↓zt_a9, ↓zt_a10, ↓zt_a11, ↓zt_a12, ↓zt_a13, ↓zt_a14, ↓zt_a15, ↓zt_a16, ↓zt_a17, ↓zt_a18, ↓zt_a19, ↓zt_a20, ↓zt_a21, ↓zt_s1 hm, ↓zt_s2 hm, ↓zt_s3 hm, ↓zt_s4 hm, ↓zt_s5 hm, ↓zt_s6 hm, ↓zt_s7 hm, ↓zt_s8 hm, ↓zt_s9 hm, ↓zt_s10 hm, ↓zt_s11 hm, ↓zt_s12 hm, ↓zt_s16 hm, ↓zt_s17 hm, ↓zt_s18 hm, ↓zt_s20 hm, ↓zt_s13 hm, ↓zt_s14 hm, ↓zt_s15 hm, ↓zt_s21 hm, ↓zt_l19, ↓zt_l17, forall_eq, ↓zqI_r, ↓zqL_r, ↓zqD_r, ↓zqF_r, ↓zqV_r, ↓zqR_r, ↓zqR_s, zboolb, zbool0, zbool1, true_and, and_true]
  refine zt_219 hm (by exact hM) hV hu.2.1 hu.1 (fun ho M' hk' hl => ?_) (fun ho M' hk' hl => ?_)
  · rw [if_pos ((zs_ov_iff hV).mp ho)] at h
    simp only [forall_eq, ↓zqI_r, ↓zqL_r, ↓zqD_r, ↓zqF_r, ↓zqV_r, ↓zqR_r, ↓zqR_s]
    exact ⟨fun h9 => absurd h9 (by decide), fun _ => h M' ((zt_pe.thr).kp hk' (by omega) (by omega))⟩
  · have hpe : zt_pe 0 M M' := (zt_pe.thr).kp hk' (by omega) (by omega)
    have e1 : M'.2.2.1 1 = V := hpe.V hM
    have hov : zs_ov V = false := by
      cases hb : zs_ov V with
      | false => rfl
      | true => exact absurd ((zs_ov_iff hV).mpr hb) ho
    rw [if_neg (by rw [hov]; decide)] at h
    simp only [↓zt_rc, ↓zt_g0, ↓zt_g1, ↓zt_g2, ↓zt_g3, ↓zt_g4, ↓zt_g5, ↓zt_g6, ↓zt_g7, ↓zt_g8, ↓zt_g9, ↓zt_g10, ↓zt_g11, ↓zt_g12, ↓zt_g13, ↓zt_g14, ↓zt_g15, ↓zt_g16, ↓zt_g17, ↓zt_g18, ↓zt_g19, ↓zt_g20, ↓zt_g21, ↓zt_g22, ↓zt_g23, ↓zt_g24, ↓zt_g25, ↓zt_g26, ↓zt_g27, ↓zt_g28, ↓zt_g29, ↓zt_g30, ↓zt_g31, ↓zt_g32, ↓zt_g33, ↓zt_g34, ↓zt_g35, ↓zt_g36, ↓zt_g37, ↓zt_g38, ↓zt_g39, ↓zt_g40, ↓zt_p4 hm, ↓zt_p5 hm, ↓zt_p6 hm, ↓zt_p15 hm, ↓zt_p21 hm, ↓zt_p22 hm, ↓zt_p23 hm, ↓zt_p26 hm, ↓zt_p28 hm, ↓zt_p29 hm, ↓zt_p30 hm, ↓zt_p31 hm, ↓zt_p32 hm, ↓zt_p33 hm, ↓zt_p34 hm, ↓zt_p35 hm, ↓zt_p36 hm, ↓zt_p40 hm, ↓zt_p19 hm, ↓zt_p20 hm, ↓zt_a1, ↓zt_a2, ↓zt_a3, ↓zt_a4, ↓zt_a5, ↓zt_a6, ↓zt_a7, ↓zt_a8, ↓zt_a9, ↓zt_a10, ↓zt_a11, ↓zt_a12, ↓zt_a13, ↓zt_a14, ↓zt_a15, ↓zt_a16, ↓zt_a17, ↓zt_a18, ↓zt_a19, ↓zt_a20, ↓zt_a21, ↓zt_s1 hm, ↓zt_s2 hm, ↓zt_s3 hm, ↓zt_s4 hm, ↓zt_s5 hm, ↓zt_s6 hm, ↓zt_s7 hm, ↓zt_s8 hm, ↓zt_s9 hm, ↓zt_s10 hm, ↓zt_s11 hm, ↓zt_s12 hm, ↓zt_s16 hm, ↓zt_s17 hm, ↓zt_s18 hm, ↓zt_s20 hm, ↓zt_s13 hm, ↓zt_s14 hm, ↓zt_s15 hm, ↓zt_s21 hm, ↓zt_l19, ↓zt_l17, forall_eq, ↓zqI_r, ↓zqL_r, ↓zqD_r, ↓zqF_r, ↓zqV_r, ↓zqR_r, ↓zqR_s, zboolb, zbool0, zbool1, true_and, and_true]
    refine ⟨fun _ => ?_, fun h9 => absurd trivial h9⟩
    refine zt_225 hm e1 hV (fun M2 hk2 hl2 htb => ?_)
    have hpe2 : zt_pe 0 M M2 := hpe.kp hk2 (by omega) (by omega)
    simp only [↓zt_rc, ↓zt_g0, ↓zt_g1, ↓zt_g2, ↓zt_g3, ↓zt_g4, ↓zt_g5, ↓zt_g6, ↓zt_g7, ↓zt_g8, ↓zt_g9, ↓zt_g10, ↓zt_g11, ↓zt_g12, ↓zt_g13, ↓zt_g14, ↓zt_g15, ↓zt_g16, ↓zt_g17, ↓zt_g18, ↓zt_g19, ↓zt_g20, ↓zt_g21, ↓zt_g22, ↓zt_g23, ↓zt_g24, ↓zt_g25, ↓zt_g26, ↓zt_g27, ↓zt_g28, ↓zt_g29, ↓zt_g30, ↓zt_g31, ↓zt_g32, ↓zt_g33, ↓zt_g34, ↓zt_g35, ↓zt_g36, ↓zt_g37, ↓zt_g38, ↓zt_g39, ↓zt_g40, ↓zt_p4 hm, ↓zt_p5 hm, ↓zt_p6 hm, ↓zt_p15 hm, ↓zt_p21 hm, ↓zt_p22 hm, ↓zt_p23 hm, ↓zt_p26 hm, ↓zt_p28 hm, ↓zt_p29 hm, ↓zt_p30 hm, ↓zt_p31 hm, ↓zt_p32 hm, ↓zt_p33 hm, ↓zt_p34 hm, ↓zt_p35 hm, ↓zt_p36 hm, ↓zt_p40 hm, ↓zt_p19 hm, ↓zt_p20 hm, ↓zt_a1, ↓zt_a2, ↓zt_a3, ↓zt_a4, ↓zt_a5, ↓zt_a6, ↓zt_a7, ↓zt_a8, ↓zt_a9, ↓zt_a10, ↓zt_a11, ↓zt_a12, ↓zt_a13, ↓zt_a14, ↓zt_a15, ↓zt_a16, ↓zt_a17, ↓zt_a18, ↓zt_a19, ↓zt_a20, ↓zt_a21, ↓zt_s1 hm, ↓zt_s2 hm, ↓zt_s3 hm, ↓zt_s4 hm, ↓zt_s5 hm, ↓zt_s6 hm, ↓zt_s7 hm, ↓zt_s8 hm, ↓zt_s9 hm, ↓zt_s10 hm, ↓zt_s11 hm, ↓zt_s12 hm, ↓zt_s16 hm, ↓zt_s17 hm, ↓zt_s18 hm, ↓zt_s20 hm, ↓zt_s13 hm, ↓zt_s14 hm, ↓zt_s15 hm, ↓zt_s21 hm, ↓zt_l19, ↓zt_l17, forall_eq, ↓zqI_r, ↓zqL_r, ↓zqD_r, ↓zqF_r, ↓zqV_r, ↓zqR_r, ↓zqR_s, zboolb, zbool0, zbool1, true_and, and_true]
    refine zt_231 (hpe2.V hM) hV hov hl2 htb ?_
    simp only [forall_eq, ↓zqI_r, ↓zqL_r, ↓zqD_r, ↓zqF_r, ↓zqV_r, ↓zqR_r, ↓zqR_s]
    exact h M2 hpe2
theorem zt_224 (hm : G.1 ≤ m) (hM : M.2.2.1 1 = V) (hV : zs_ok V) (h : ∀ M', zt_pe 0 M M' → Q (some (.int (iI (zs_w V 1 (V 6).toNatClampNeg - zs_w V 3 (V 7).toNatClampNeg + (if zs_ov V = true then 0 else zs_O V (zs_us V) (zs_tu V) (zs_pa V)))))) (zt_S σ m N M')) : zCall G (n + 5) 224 [.ref m] Q Y (zt_S σ m N M) := by
  have hu := hV.us
  have ht := hV.tu
  have hp := hV.pa
  have hA := hV.all
  refine ze224 ⟨_, rfl, ?_⟩
  simp only [↓zt_rc, ↓zt_g0, ↓zt_g1, ↓zt_g2, ↓zt_g3, ↓zt_g4, ↓zt_g5, ↓zt_g6, ↓zt_g7, ↓zt_g8, ↓zt_g9, ↓zt_g10, ↓zt_g11, ↓zt_g12, ↓zt_g13, ↓zt_g14, ↓zt_g15, ↓zt_g16, ↓zt_g17, ↓zt_g18, ↓zt_g19, ↓zt_g20, ↓zt_g21, ↓zt_g22, ↓zt_g23, ↓zt_g24, ↓zt_g25, ↓zt_g26, ↓zt_g27, ↓zt_g28, ↓zt_g29, ↓zt_g30, ↓zt_g31, ↓zt_g32, ↓zt_g33, ↓zt_g34, ↓zt_g35, ↓zt_g36, ↓zt_g37, ↓zt_g38, ↓zt_g39, ↓zt_g40, ↓zt_p4 hm, ↓zt_p5 hm, ↓zt_p6 hm, ↓zt_p15 hm, ↓zt_p21 hm, ↓zt_p22 hm, ↓zt_p23 hm, ↓zt_p26 hm, ↓zt_p28 hm, ↓zt_p29 hm, ↓zt_p30 hm, ↓zt_p31 hm, ↓zt_p32 hm, ↓zt_p33 hm, ↓zt_p34 hm, ↓zt_p35 hm, ↓zt_p36 hm, ↓zt_p40 hm, ↓zt_p19 hm, ↓zt_p20 hm, ↓zt_a1, ↓zt_a2, ↓zt_a3, ↓zt_a4, ↓zt_a5, ↓zt_a6, ↓zt_a7, ↓zt_a8, ↓zt_a9, ↓zt_a10, ↓zt_a11, ↓zt_a12, ↓zt_a13, ↓zt_a14, ↓zt_a15, ↓zt_a16, ↓zt_a17, ↓zt_a18, ↓zt_a19, ↓zt_a20, ↓zt_a21, ↓zt_s1 hm, ↓zt_s2 hm, ↓zt_s3 hm, ↓zt_s4 hm, ↓zt_s5 hm, ↓zt_s6 hm, ↓zt_s7 hm, ↓zt_s8 hm, ↓zt_s9 hm, ↓zt_s10 hm, ↓zt_s11 hm, ↓zt_s12 hm, ↓zt_s16 hm, ↓zt_s17 hm, ↓zt_s18 hm, ↓zt_s20 hm, ↓zt_s13 hm, ↓zt_s14 hm, ↓zt_s15 hm, ↓zt_s21 hm, ↓zt_l19, ↓zt_l17, forall_eq, ↓zqI_r, ↓zqL_r, ↓zqD_r, ↓zqF_r, ↓zqV_r, ↓zqR_r, ↓zqR_s, zboolb, zbool0, zbool1, true_and, and_true]
  refine zt_219 hm (by exact hM) hV hu.2.1 hu.1 (fun ho M' hk' hl => ?_) (fun ho M' hk' hl => ?_)
  · have hpe : zt_pe 0 M M' := (zt_pe.thr).kp hk' (by omega) (by omega)
    rw [if_pos ((zs_ov_iff hV).mp ho), Int.add_zero] at h
    simp only [↓zt_rc, ↓zt_g0, ↓zt_g1, ↓zt_g2, ↓zt_g3, ↓zt_g4, ↓zt_g5, ↓zt_g6, ↓zt_g7, ↓zt_g8, ↓zt_g9, ↓zt_g10, ↓zt_g11, ↓zt_g12, ↓zt_g13, ↓zt_g14, ↓zt_g15, ↓zt_g16, ↓zt_g17, ↓zt_g18, ↓zt_g19, ↓zt_g20, ↓zt_g21, ↓zt_g22, ↓zt_g23, ↓zt_g24, ↓zt_g25, ↓zt_g26, ↓zt_g27, ↓zt_g28, ↓zt_g29, ↓zt_g30, ↓zt_g31, ↓zt_g32, ↓zt_g33, ↓zt_g34, ↓zt_g35, ↓zt_g36, ↓zt_g37, ↓zt_g38, ↓zt_g39, ↓zt_g40, ↓zt_p4 hm, ↓zt_p5 hm, ↓zt_p6 hm, ↓zt_p15 hm, ↓zt_p21 hm, ↓zt_p22 hm, ↓zt_p23 hm, ↓zt_p26 hm, ↓zt_p28 hm, ↓zt_p29 hm, ↓zt_p30 hm, ↓zt_p31 hm, ↓zt_p32 hm, ↓zt_p33 hm, ↓zt_p34 hm, ↓zt_p35 hm, ↓zt_p36 hm, ↓zt_p40 hm, ↓zt_p19 hm, ↓zt_p20 hm, ↓zt_a1, ↓zt_a2, ↓zt_a3, ↓zt_a4, ↓zt_a5, ↓zt_a6, ↓zt_a7, ↓zt_a8, ↓zt_a9, ↓zt_a10, ↓zt_a11, ↓zt_a12, ↓zt_a13, ↓zt_a14, ↓zt_a15, ↓zt_a16, ↓zt_a17, ↓zt_a18, ↓zt_a19, ↓zt_a20, ↓zt_a21, ↓zt_s1 hm, ↓zt_s2 hm, ↓zt_s3 hm, ↓zt_s4 hm, ↓zt_s5 hm, ↓zt_s6 hm, ↓zt_s7 hm, ↓zt_s8 hm, ↓zt_s9 hm, ↓zt_s10 hm, ↓zt_s11 hm, ↓zt_s12 hm, ↓zt_s16 hm, ↓zt_s17 hm, ↓zt_s18 hm, ↓zt_s20 hm, ↓zt_s13 hm, ↓zt_s14 hm, ↓zt_s15 hm, ↓zt_s21 hm, ↓zt_l19, ↓zt_l17, forall_eq, ↓zqI_r, ↓zqL_r, ↓zqD_r, ↓zqF_r, ↓zqV_r, ↓zqR_r, ↓zqR_s, zboolb, zbool0, zbool1, true_and, and_true]
    refine ⟨fun h9 => absurd h9 (by decide), fun _ => ?_⟩
    refine zt_217 (hpe.V hM) hV hV.g6.2 hV.g7.2 hV.g6.1 hV.g7.1 ?_
    simp only [forall_eq, ↓zqI_r, ↓zqL_r, ↓zqD_r, ↓zqF_r, ↓zqV_r, ↓zqR_r, ↓zqR_s]
    exact h M' hpe
  · have hpe : zt_pe 0 M M' := (zt_pe.thr).kp hk' (by omega) (by omega)
    have e1 : M'.2.2.1 1 = V := hpe.V hM
    have hov : zs_ov V = false := by
      cases hb : zs_ov V with
      | false => rfl
      | true => exact absurd ((zs_ov_iff hV).mpr hb) ho
    have hp1 := zs_pa1 hV hov
    rw [if_neg (by rw [hov]; decide)] at h
    simp only [↓zt_rc, ↓zt_g0, ↓zt_g1, ↓zt_g2, ↓zt_g3, ↓zt_g4, ↓zt_g5, ↓zt_g6, ↓zt_g7, ↓zt_g8, ↓zt_g9, ↓zt_g10, ↓zt_g11, ↓zt_g12, ↓zt_g13, ↓zt_g14, ↓zt_g15, ↓zt_g16, ↓zt_g17, ↓zt_g18, ↓zt_g19, ↓zt_g20, ↓zt_g21, ↓zt_g22, ↓zt_g23, ↓zt_g24, ↓zt_g25, ↓zt_g26, ↓zt_g27, ↓zt_g28, ↓zt_g29, ↓zt_g30, ↓zt_g31, ↓zt_g32, ↓zt_g33, ↓zt_g34, ↓zt_g35, ↓zt_g36, ↓zt_g37, ↓zt_g38, ↓zt_g39, ↓zt_g40, ↓zt_p4 hm, ↓zt_p5 hm, ↓zt_p6 hm, ↓zt_p15 hm, ↓zt_p21 hm, ↓zt_p22 hm, ↓zt_p23 hm, ↓zt_p26 hm, ↓zt_p28 hm, ↓zt_p29 hm, ↓zt_p30 hm, ↓zt_p31 hm, ↓zt_p32 hm, ↓zt_p33 hm, ↓zt_p34 hm, ↓zt_p35 hm, ↓zt_p36 hm, ↓zt_p40 hm, ↓zt_p19 hm, ↓zt_p20 hm, ↓zt_a1, ↓zt_a2, ↓zt_a3, ↓zt_a4, ↓zt_a5, ↓zt_a6, ↓zt_a7, ↓zt_a8, ↓zt_a9, ↓zt_a10, ↓zt_a11, ↓zt_a12, ↓zt_a13, ↓zt_a14, ↓zt_a15, ↓zt_a16, ↓zt_a17, ↓zt_a18, ↓zt_a19, ↓zt_a20, ↓zt_a21, ↓zt_s1 hm, ↓zt_s2 hm, ↓zt_s3 hm, ↓zt_s4 hm, ↓zt_s5 hm, ↓zt_s6 hm, ↓zt_s7 hm, ↓zt_s8 hm, ↓zt_s9 hm, ↓zt_s10 hm, ↓zt_s11 hm, ↓zt_s12 hm, ↓zt_s16 hm, ↓zt_s17 hm, ↓zt_s18 hm, ↓zt_s20 hm, ↓zt_s13 hm, ↓zt_s14 hm, ↓zt_s15 hm, ↓zt_s21 hm, ↓zt_l19, ↓zt_l17, forall_eq, ↓zqI_r, ↓zqL_r, ↓zqD_r, ↓zqF_r, ↓zqV_r, ↓zqR_r, ↓zqR_s, zboolb, zbool0, zbool1, true_and, and_true]
    refine ⟨fun _ => ?_, fun h9 => absurd trivial h9⟩
    refine zt_225 hm e1 hV (fun M2 hk2 hl2 htb => ?_)
    have hpe2 : zt_pe 0 M M2 := hpe.kp hk2 (by omega) (by omega)
    have e2 := hpe2.V hM
    simp only [↓zt_rc, ↓zt_g0, ↓zt_g1, ↓zt_g2, ↓zt_g3, ↓zt_g4, ↓zt_g5, ↓zt_g6, ↓zt_g7, ↓zt_g8, ↓zt_g9, ↓zt_g10, ↓zt_g11, ↓zt_g12, ↓zt_g13, ↓zt_g14, ↓zt_g15, ↓zt_g16, ↓zt_g17, ↓zt_g18, ↓zt_g19, ↓zt_g20, ↓zt_g21, ↓zt_g22, ↓zt_g23, ↓zt_g24, ↓zt_g25, ↓zt_g26, ↓zt_g27, ↓zt_g28, ↓zt_g29, ↓zt_g30, ↓zt_g31, ↓zt_g32, ↓zt_g33, ↓zt_g34, ↓zt_g35, ↓zt_g36, ↓zt_g37, ↓zt_g38, ↓zt_g39, ↓zt_g40, ↓zt_p4 hm, ↓zt_p5 hm, ↓zt_p6 hm, ↓zt_p15 hm, ↓zt_p21 hm, ↓zt_p22 hm, ↓zt_p23 hm, ↓zt_p26 hm, ↓zt_p28 hm, ↓zt_p29 hm, ↓zt_p30 hm, ↓zt_p31 hm, ↓zt_p32 hm, ↓zt_p33 hm, ↓zt_p34 hm, ↓zt_p35 hm, ↓zt_p36 hm, ↓zt_p40 hm, ↓zt_p19 hm, ↓zt_p20 hm, ↓zt_a1, ↓zt_a2, ↓zt_a3, ↓zt_a4, ↓zt_a5, ↓zt_a6, ↓zt_a7, ↓zt_a8, ↓zt_a9, ↓zt_a10, ↓zt_a11, ↓zt_a12, ↓zt_a13, ↓zt_a14, ↓zt_a15, ↓zt_a16, ↓zt_a17, ↓zt_a18, ↓zt_a19, ↓zt_a20, ↓zt_a21, ↓zt_s1 hm, ↓zt_s2 hm, ↓zt_s3 hm, ↓zt_s4 hm, ↓zt_s5 hm, ↓zt_s6 hm, ↓zt_s7 hm, ↓zt_s8 hm, ↓zt_s9 hm, ↓zt_s10 hm, ↓zt_s11 hm, ↓zt_s12 hm, ↓zt_s16 hm, ↓zt_s17 hm, ↓zt_s18 hm, ↓zt_s20 hm, ↓zt_s13 hm, ↓zt_s14 hm, ↓zt_s15 hm, ↓zt_s21 hm, ↓zt_l19, ↓zt_l17, forall_eq, ↓zqI_r, ↓zqL_r, ↓zqD_r, ↓zqF_r, ↓zqV_r, ↓zqR_r, ↓zqR_s, zboolb, zbool0, zbool1, true_and, and_true]
    refine zt_217 e2 hV hV.g6.2 hV.g7.2 hV.g6.1 hV.g7.1 ?_
    have htb0 := htb (zs_us V) (zs_tu V) (zs_pa V) hu.2.1 ht.2 hp1
    unfold zt_tb at htb0
    have hx := zx_ol (zs_us V) (zs_tu V) (zs_pa V)
    have hc : (nI (4 * zs_us V + 2 * zs_tu V + zs_pa V)).toNatClampNeg = 4 * zs_us V + 2 * zs_tu V + zs_pa V := nI_cl (by omega)
    simp only [↓zt_rc, ↓zt_g0, ↓zt_g1, ↓zt_g2, ↓zt_g3, ↓zt_g4, ↓zt_g5, ↓zt_g6, ↓zt_g7, ↓zt_g8, ↓zt_g9, ↓zt_g10, ↓zt_g11, ↓zt_g12, ↓zt_g13, ↓zt_g14, ↓zt_g15, ↓zt_g16, ↓zt_g17, ↓zt_g18, ↓zt_g19, ↓zt_g20, ↓zt_g21, ↓zt_g22, ↓zt_g23, ↓zt_g24, ↓zt_g25, ↓zt_g26, ↓zt_g27, ↓zt_g28, ↓zt_g29, ↓zt_g30, ↓zt_g31, ↓zt_g32, ↓zt_g33, ↓zt_g34, ↓zt_g35, ↓zt_g36, ↓zt_g37, ↓zt_g38, ↓zt_g39, ↓zt_g40, ↓zt_p4 hm, ↓zt_p5 hm, ↓zt_p6 hm, ↓zt_p15 hm, ↓zt_p21 hm, ↓zt_p22 hm, ↓zt_p23 hm, ↓zt_p26 hm, ↓zt_p28 hm, ↓zt_p29 hm, ↓zt_p30 hm, ↓zt_p31 hm, ↓zt_p32 hm, ↓zt_p33 hm, ↓zt_p34 hm, ↓zt_p35 hm, ↓zt_p36 hm, ↓zt_p40 hm, ↓zt_p19 hm, ↓zt_p20 hm, ↓zt_a1, ↓zt_a2, ↓zt_a3, ↓zt_a4, ↓zt_a5, ↓zt_a6, ↓zt_a7, ↓zt_a8, ↓zt_a9, ↓zt_a10, ↓zt_a11, ↓zt_a12, ↓zt_a13, ↓zt_a14, ↓zt_a15, ↓zt_a16, ↓zt_a17, ↓zt_a18, ↓zt_a19, ↓zt_a20, ↓zt_a21, ↓zt_s1 hm, ↓zt_s2 hm, ↓zt_s3 hm, ↓zt_s4 hm, ↓zt_s5 hm, ↓zt_s6 hm, ↓zt_s7 hm, ↓zt_s8 hm, ↓zt_s9 hm, ↓zt_s10 hm, ↓zt_s11 hm, ↓zt_s12 hm, ↓zt_s16 hm, ↓zt_s17 hm, ↓zt_s18 hm, ↓zt_s20 hm, ↓zt_s13 hm, ↓zt_s14 hm, ↓zt_s15 hm, ↓zt_s21 hm, ↓zt_l19, ↓zt_l17, forall_eq, ↓zqI_r, ↓zqL_r, ↓zqD_r, ↓zqF_r, ↓zqV_r, ↓zqR_r, ↓zqR_s, zboolb, zbool0, zbool1, true_and, and_true, zi_0, zj_0, zi_1, zj_1, zi_2, zj_2, zi_3, zj_3, zi_4, zj_4, zi_5, zj_5, zi_6, zj_6, zi_7, zj_7, zi_8, zj_8, zi_9, zj_9, zi_10, zj_10, true_and, and_true, ↓zl_216, ↓zl_226, e2, hu.1, ht.1, hp.1, hx, hc, htb0, iI_add]
    exact ⟨nI_i (by omega) (by omega), h M2 hpe2⟩
theorem zt_252 (hm : G.1 ≤ m) (hM : M.2.2.1 1 = V) (hV : zs_ok V) (hh : zt_hs M u H) {x : Int32} (h0 : ∀ c, 1 ≤ c → c ≤ 30 → x = nI c → ∀ M', zt_pq 0 M M' → M'.2.2.1 1 = (zs_play c V).2 → zs_ok (zs_play c V).2 → zt_hs M' (zs_rec u H V).1 (zs_rec u H V).2 → Q (some (.int (nI (zs_play c V).1))) (zt_S σ m N M')) (h1 : ¬ (1 ≤ x.toInt ∧ x.toInt ≤ 30) → ∀ M', zt_pe 1 M M' → Q (some (.int 0)) (zt_S σ m N M')) : zCall G (n + 6) 252 [.ref m, .int x] Q Y (zt_S σ m N M) := by
  refine ze252 ⟨_, _, rfl, ?_⟩
  have e : (1 ≤ x ∧ x ≤ 30) ↔ (1 ≤ x.toInt ∧ x.toInt ≤ 30) := by
    rw [fa_le, fa_le]
    exact Iff.rfl
  simp only [↓zt_rc, ↓zt_g0, ↓zt_g1, ↓zt_g2, ↓zt_g3, ↓zt_g4, ↓zt_g5, ↓zt_g6, ↓zt_g7, ↓zt_g8, ↓zt_g9, ↓zt_g10, ↓zt_g11, ↓zt_g12, ↓zt_g13, ↓zt_g14, ↓zt_g15, ↓zt_g16, ↓zt_g17, ↓zt_g18, ↓zt_g19, ↓zt_g20, ↓zt_g21, ↓zt_g22, ↓zt_g23, ↓zt_g24, ↓zt_g25, ↓zt_g26, ↓zt_g27, ↓zt_g28, ↓zt_g29, ↓zt_g30, ↓zt_g31, ↓zt_g32, ↓zt_g33, ↓zt_g34, ↓zt_g35, ↓zt_g36, ↓zt_g37, ↓zt_g38, ↓zt_g39, ↓zt_g40, ↓zt_p4 hm, ↓zt_p5 hm, ↓zt_p6 hm, ↓zt_p15 hm, ↓zt_p21 hm, ↓zt_p22 hm, ↓zt_p23 hm, ↓zt_p26 hm, ↓zt_p28 hm, ↓zt_p29 hm, ↓zt_p30 hm, ↓zt_p31 hm, ↓zt_p32 hm, ↓zt_p33 hm, ↓zt_p34 hm, ↓zt_p35 hm, ↓zt_p36 hm, ↓zt_p40 hm, ↓zt_p19 hm, ↓zt_p20 hm, ↓zt_a1, ↓zt_a2, ↓zt_a3, ↓zt_a4, ↓zt_a5, ↓zt_a6, ↓zt_a7, ↓zt_a8, ↓zt_a9, ↓zt_a10, ↓zt_a11, ↓zt_a12, ↓zt_a13, ↓zt_a14, ↓zt_a15, ↓zt_a16, ↓zt_a17, ↓zt_a18, ↓zt_a19, ↓zt_a20, ↓zt_a21, ↓zt_s1 hm, ↓zt_s2 hm, ↓zt_s3 hm, ↓zt_s4 hm, ↓zt_s5 hm, ↓zt_s6 hm, ↓zt_s7 hm, ↓zt_s8 hm, ↓zt_s9 hm, ↓zt_s10 hm, ↓zt_s11 hm, ↓zt_s12 hm, ↓zt_s16 hm, ↓zt_s17 hm, ↓zt_s18 hm, ↓zt_s20 hm, ↓zt_s13 hm, ↓zt_s14 hm, ↓zt_s15 hm, ↓zt_s21 hm, ↓zt_l19, ↓zt_l17, forall_eq, ↓zqI_r, ↓zqL_r, ↓zqD_r, ↓zqF_r, ↓zqV_r, ↓zqR_r, ↓zqR_s, zboolb, zbool0, zbool1, true_and, and_true, ↓zl_166, ↓zl_163 hm, zs_b0, Classical.not_not, e]
  refine ⟨fun hi => ?_, fun hn => h1 hn _ (zt_pe.re zt_pe.thr)⟩
  obtain ⟨c, hc1, hc2, rfl⟩ : ∃ c : Nat, 1 ≤ c ∧ c ≤ 30 ∧ x = nI c := ⟨x.toInt.toNat, by omega, by omega, by rw [← iI_nat, show ((x.toInt.toNat : Nat) : Int) = x.toInt by omega, iI_of]⟩
  have h0 := h0 c hc1 hc2 rfl
  refine zt_237 hm (by exact hM) (hh.sI (by omega)) (fun M1 hh1 g1 g2 g3 gA => ?_)
  have e1 : M1.2.2.1 1 = V := (gA 1 (by omega)).trans hM
  simp only [↓zt_rc, ↓zt_g0, ↓zt_g1, ↓zt_g2, ↓zt_g3, ↓zt_g4, ↓zt_g5, ↓zt_g6, ↓zt_g7, ↓zt_g8, ↓zt_g9, ↓zt_g10, ↓zt_g11, ↓zt_g12, ↓zt_g13, ↓zt_g14, ↓zt_g15, ↓zt_g16, ↓zt_g17, ↓zt_g18, ↓zt_g19, ↓zt_g20, ↓zt_g21, ↓zt_g22, ↓zt_g23, ↓zt_g24, ↓zt_g25, ↓zt_g26, ↓zt_g27, ↓zt_g28, ↓zt_g29, ↓zt_g30, ↓zt_g31, ↓zt_g32, ↓zt_g33, ↓zt_g34, ↓zt_g35, ↓zt_g36, ↓zt_g37, ↓zt_g38, ↓zt_g39, ↓zt_g40, ↓zt_p4 hm, ↓zt_p5 hm, ↓zt_p6 hm, ↓zt_p15 hm, ↓zt_p21 hm, ↓zt_p22 hm, ↓zt_p23 hm, ↓zt_p26 hm, ↓zt_p28 hm, ↓zt_p29 hm, ↓zt_p30 hm, ↓zt_p31 hm, ↓zt_p32 hm, ↓zt_p33 hm, ↓zt_p34 hm, ↓zt_p35 hm, ↓zt_p36 hm, ↓zt_p40 hm, ↓zt_p19 hm, ↓zt_p20 hm, ↓zt_a1, ↓zt_a2, ↓zt_a3, ↓zt_a4, ↓zt_a5, ↓zt_a6, ↓zt_a7, ↓zt_a8, ↓zt_a9, ↓zt_a10, ↓zt_a11, ↓zt_a12, ↓zt_a13, ↓zt_a14, ↓zt_a15, ↓zt_a16, ↓zt_a17, ↓zt_a18, ↓zt_a19, ↓zt_a20, ↓zt_a21, ↓zt_s1 hm, ↓zt_s2 hm, ↓zt_s3 hm, ↓zt_s4 hm, ↓zt_s5 hm, ↓zt_s6 hm, ↓zt_s7 hm, ↓zt_s8 hm, ↓zt_s9 hm, ↓zt_s10 hm, ↓zt_s11 hm, ↓zt_s12 hm, ↓zt_s16 hm, ↓zt_s17 hm, ↓zt_s18 hm, ↓zt_s20 hm, ↓zt_s13 hm, ↓zt_s14 hm, ↓zt_s15 hm, ↓zt_s21 hm, ↓zt_l19, ↓zt_l17, forall_eq, ↓zqI_r, ↓zqL_r, ↓zqD_r, ↓zqF_r, ↓zqV_r, ↓zqR_r, ↓zqR_s, zboolb, zbool0, zbool1, true_and, and_true]
  refine zt_225 hm e1 hV (fun M2 hk2 hl2 htb2 => ?_)
  have hpq2 : zt_pq 0 M M2 := (((zt_pq.ofe zt_pe.thr).rec g1 gA)).kp hk2 (by omega) (by omega)
  have hn := hV.n0.2
  simp only [forall_eq, ↓zqI_r, ↓zqL_r, ↓zqD_r, ↓zqF_r, ↓zqV_r, ↓zqR_r, ↓zqR_s, zJ]
  refine zf2 0 (c + 1) (fun k s' => ∃ M' W, s' = zt_S σ m N M' ∧ k ≤ c ∧ zt_pq 0 M M' ∧ M'.2.2.1 1 = W ∧ zs_ok W ∧ zs_sim V W ∧ zt_hs M' (zs_rec u H V).1 (zs_rec u H V).2 ∧ (∀ s t pa, s < zs_all V → t ≤ 1 → pa ≤ 1 → zt_tb V M' s t pa) ∧ k + (zs_play (c - k) W).1 = (zs_play c V).1 ∧ (zs_play (c - k) W).2 = (zs_play c V).2) (by omega) ?_ ?_ ⟨M2, V, rfl, by omega, hpq2, (hk2.2.2.2 1 (by omega)).trans e1, hV, zs_sim.refl V, hh1.kp hk2 (by omega), htb2, by rw [Nat.sub_zero, Nat.zero_add], by rw [Nat.sub_zero]⟩
  · rintro rec k s' _ hk ⟨M', W, rfl, hkc, hpq, eW, hW, hsim, hhs, htb, p1, p2⟩ hrec
    rw [nI_leI (by omega) (by omega)]
    have done : ∀ M'', zt_kp 5 8 M' M'' → (zs_play (c - k) W) = (0, W) → Q (some (.int (nI k))) (zt_S σ m N M'') := by
      intro M'' hkp hz
      rw [hz] at p1 p2
      have p1 : k + 0 = _ := p1
      have p2 : W = _ := p2
      rw [← p1, ← p2] at h0
      exact h0 M'' (hpq.kp hkp (by omega) (by omega)) ((hkp.2.2.2 1 (by omega)).trans eW) hW (hhs.kp hkp (by omega))
    refine ⟨fun hge => done M' zt_kp.rfl' ?_, fun hlt => ?_⟩
    · rw [show c - k = 0 by omega]
      rfl
    · obtain ⟨q, hq⟩ : ∃ q, c - k = q + 1 := ⟨c - k - 1, by omega⟩
      have hu := hW.us
      simp only [↓zt_rc, ↓zt_g0, ↓zt_g1, ↓zt_g2, ↓zt_g3, ↓zt_g4, ↓zt_g5, ↓zt_g6, ↓zt_g7, ↓zt_g8, ↓zt_g9, ↓zt_g10, ↓zt_g11, ↓zt_g12, ↓zt_g13, ↓zt_g14, ↓zt_g15, ↓zt_g16, ↓zt_g17, ↓zt_g18, ↓zt_g19, ↓zt_g20, ↓zt_g21, ↓zt_g22, ↓zt_g23, ↓zt_g24, ↓zt_g25, ↓zt_g26, ↓zt_g27, ↓zt_g28, ↓zt_g29, ↓zt_g30, ↓zt_g31, ↓zt_g32, ↓zt_g33, ↓zt_g34, ↓zt_g35, ↓zt_g36, ↓zt_g37, ↓zt_g38, ↓zt_g39, ↓zt_g40, ↓zt_p4 hm, ↓zt_p5 hm, ↓zt_p6 hm, ↓zt_p15 hm, ↓zt_p21 hm, ↓zt_p22 hm, ↓zt_p23 hm, ↓zt_p26 hm, ↓zt_p28 hm, ↓zt_p29 hm, ↓zt_p30 hm, ↓zt_p31 hm, ↓zt_p32 hm, ↓zt_p33 hm, ↓zt_p34 hm, ↓zt_p35 hm, ↓zt_p36 hm, ↓zt_p40 hm, ↓zt_p19 hm, ↓zt_p20 hm, ↓zt_a1, ↓zt_a2, ↓zt_a3, ↓zt_a4, ↓zt_a5, ↓zt_a6, ↓zt_a7, ↓zt_a8, ↓zt_a9, ↓zt_a10, ↓zt_a11, ↓zt_a12, ↓zt_a13, ↓zt_a14, ↓zt_a15, ↓zt_a16, ↓zt_a17, ↓zt_a18, ↓zt_a19, ↓zt_a20, ↓zt_a21, ↓zt_s1 hm, ↓zt_s2 hm, ↓zt_s3 hm, ↓zt_s4 hm, ↓zt_s5 hm, ↓zt_s6 hm, ↓zt_s7 hm, ↓zt_s8 hm, ↓zt_s9 hm, ↓zt_s10 hm, ↓zt_s11 hm, ↓zt_s12 hm, ↓zt_s16 hm, ↓zt_s17 hm, ↓zt_s18 hm, ↓zt_s20 hm, ↓zt_s13 hm, ↓zt_s14 hm, ↓zt_s15 hm, ↓zt_s21 hm, ↓zt_l19, ↓zt_l17, forall_eq, ↓zqI_r, ↓zqL_r, ↓zqD_r, ↓zqF_r, ↓zqV_r, ↓zqR_r, ↓zqR_s, zboolb, zbool0, zbool1, true_and, and_true]
      refine zt_219 hm eW hW hu.2.1 hu.1 (fun ho M'' hkp hl => ?_) (fun ho M'' hkp hl => ?_)
      · simp only [forall_eq, ↓zqI_r, ↓zqL_r, ↓zqD_r, ↓zqF_r, ↓zqV_r, ↓zqR_r, ↓zqR_s]
        refine ⟨fun _ => done M'' hkp ?_, fun h9 => absurd h9 (by decide)⟩
        rw [hq]
        simp only [zs_play]
        rw [if_pos ((zs_ov_iff hW).mp ho)]
      · have hov : zs_ov W = false := by
          cases hb : zs_ov W with
          | false => rfl
          | true => exact absurd ((zs_ov_iff hW).mpr hb) ho
        have eW2 : M''.2.2.1 1 = W := (hkp.2.2.2 1 (by omega)).trans eW
        simp only [↓zt_rc, ↓zt_g0, ↓zt_g1, ↓zt_g2, ↓zt_g3, ↓zt_g4, ↓zt_g5, ↓zt_g6, ↓zt_g7, ↓zt_g8, ↓zt_g9, ↓zt_g10, ↓zt_g11, ↓zt_g12, ↓zt_g13, ↓zt_g14, ↓zt_g15, ↓zt_g16, ↓zt_g17, ↓zt_g18, ↓zt_g19, ↓zt_g20, ↓zt_g21, ↓zt_g22, ↓zt_g23, ↓zt_g24, ↓zt_g25, ↓zt_g26, ↓zt_g27, ↓zt_g28, ↓zt_g29, ↓zt_g30, ↓zt_g31, ↓zt_g32, ↓zt_g33, ↓zt_g34, ↓zt_g35, ↓zt_g36, ↓zt_g37, ↓zt_g38, ↓zt_g39, ↓zt_g40, ↓zt_p4 hm, ↓zt_p5 hm, ↓zt_p6 hm, ↓zt_p15 hm, ↓zt_p21 hm, ↓zt_p22 hm, ↓zt_p23 hm, ↓zt_p26 hm, ↓zt_p28 hm, ↓zt_p29 hm, ↓zt_p30 hm, ↓zt_p31 hm, ↓zt_p32 hm, ↓zt_p33 hm, ↓zt_p34 hm, ↓zt_p35 hm, ↓zt_p36 hm, ↓zt_p40 hm, ↓zt_p19 hm, ↓zt_p20 hm, ↓zt_a1, ↓zt_a2, ↓zt_a3, ↓zt_a4, ↓zt_a5, ↓zt_a6, ↓zt_a7, ↓zt_a8, ↓zt_a9, ↓zt_a10, ↓zt_a11, ↓zt_a12, ↓zt_a13, ↓zt_a14, ↓zt_a15, ↓zt_a16, ↓zt_a17, ↓zt_a18, ↓zt_a19, ↓zt_a20, ↓zt_a21, ↓zt_s1 hm, ↓zt_s2 hm, ↓zt_s3 hm, ↓zt_s4 hm, ↓zt_s5 hm, ↓zt_s6 hm, ↓zt_s7 hm, ↓zt_s8 hm, ↓zt_s9 hm, ↓zt_s10 hm, ↓zt_s11 hm, ↓zt_s12 hm, ↓zt_s16 hm, ↓zt_s17 hm, ↓zt_s18 hm, ↓zt_s20 hm, ↓zt_s13 hm, ↓zt_s14 hm, ↓zt_s15 hm, ↓zt_s21 hm, ↓zt_l19, ↓zt_l17, forall_eq, ↓zqI_r, ↓zqL_r, ↓zqD_r, ↓zqF_r, ↓zqV_r, ↓zqR_r, ↓zqR_s, zboolb, zbool0, zbool1, true_and, and_true]
        refine ⟨fun h9 => absurd trivial h9, fun _ => ?_⟩
        refine zt_231 eW2 hW hov hl (fun s t pa a1 a2 a3 => ?_) ?_
        · have := htb s t pa (by rw [← hsim.all]; exact a1) a2 a3
          unfold zt_tb at this ⊢
          rw [hkp.2.2.2 16 (by omega), this, hsim.O hn]
        · simp only [↓zt_rc, ↓zt_g0, ↓zt_g1, ↓zt_g2, ↓zt_g3, ↓zt_g4, ↓zt_g5, ↓zt_g6, ↓zt_g7, ↓zt_g8, ↓zt_g9, ↓zt_g10, ↓zt_g11, ↓zt_g12, ↓zt_g13, ↓zt_g14, ↓zt_g15, ↓zt_g16, ↓zt_g17, ↓zt_g18, ↓zt_g19, ↓zt_g20, ↓zt_g21, ↓zt_g22, ↓zt_g23, ↓zt_g24, ↓zt_g25, ↓zt_g26, ↓zt_g27, ↓zt_g28, ↓zt_g29, ↓zt_g30, ↓zt_g31, ↓zt_g32, ↓zt_g33, ↓zt_g34, ↓zt_g35, ↓zt_g36, ↓zt_g37, ↓zt_g38, ↓zt_g39, ↓zt_g40, ↓zt_p4 hm, ↓zt_p5 hm, ↓zt_p6 hm, ↓zt_p15 hm, ↓zt_p21 hm, ↓zt_p22 hm, ↓zt_p23 hm, ↓zt_p26 hm, ↓zt_p28 hm, ↓zt_p29 hm, ↓zt_p30 hm, ↓zt_p31 hm, ↓zt_p32 hm, ↓zt_p33 hm, ↓zt_p34 hm, ↓zt_p35 hm, ↓zt_p36 hm, ↓zt_p40 hm, ↓zt_p19 hm, ↓zt_p20 hm, ↓zt_a1, ↓zt_a2, ↓zt_a3, ↓zt_a4, ↓zt_a5, ↓zt_a6, ↓zt_a7, ↓zt_a8, ↓zt_a9, ↓zt_a10, ↓zt_a11, ↓zt_a12, ↓zt_a13, ↓zt_a14, ↓zt_a15, ↓zt_a16, ↓zt_a17, ↓zt_a18, ↓zt_a19, ↓zt_a20, ↓zt_a21, ↓zt_s1 hm, ↓zt_s2 hm, ↓zt_s3 hm, ↓zt_s4 hm, ↓zt_s5 hm, ↓zt_s6 hm, ↓zt_s7 hm, ↓zt_s8 hm, ↓zt_s9 hm, ↓zt_s10 hm, ↓zt_s11 hm, ↓zt_s12 hm, ↓zt_s16 hm, ↓zt_s17 hm, ↓zt_s18 hm, ↓zt_s20 hm, ↓zt_s13 hm, ↓zt_s14 hm, ↓zt_s15 hm, ↓zt_s21 hm, ↓zt_l19, ↓zt_l17, forall_eq, ↓zqI_r, ↓zqL_r, ↓zqD_r, ↓zqF_r, ↓zqV_r, ↓zqR_r, ↓zqR_s, zboolb, zbool0, zbool1, true_and, and_true]
          have hstep := zs_step_ok hW hov
          have hss := zs_step_sim hW
          have hpl : zs_play (c - k) W = ((zs_play q (zs_step W)).1 + 1, (zs_play q (zs_step W)).2) := by
            rw [hq]
            simp only [zs_play]
            rw [if_neg (by rw [hov]; decide)]
          rw [hpl] at p1 p2
          have go : rec (nI k + 1) (zt_S σ m N (M''.sA 1 (zs_step W))) := by
            refine hrec _ ⟨_, zs_step W, rfl, by omega, (hpq.kp hkp (by omega) (by omega)).sA1, zt_sAj, hstep, hsim.trans hss, (hhs.kp hkp (by omega)).sA (by omega), ?_, ?_, ?_⟩
            · intro s t pa a1 a2 a3
              have := htb s t pa a1 a2 a3
              unfold zt_tb at this ⊢
              have e9 : (M''.sA 1 (zs_step W)).2.2.1 16 = M''.2.2.1 16 := va_up_ne (k := 1) (j := 16) M''.2.2.1 (zs_step W) (by decide)
              rw [e9, hkp.2.2.2 16 (by omega), this]
            · rw [show c - (k + 1) = q by omega]
              have p1 : k + ((zs_play q (zs_step W)).1 + 1) = _ := p1
              omega
            · rw [show c - (k + 1) = q by omega]
              exact p2
          unfold zs_step at go
          cases hmv : zs_mvn W with
          | some i =>
            rw [hmv] at go
            refine zt_250t hm eW2 hW (zs_mv_lt hmv).1 ?_
            simp only [forall_eq, ↓zqI_r, ↓zqL_r, ↓zqD_r, ↓zqF_r, ↓zqV_r, ↓zqR_r, ↓zqR_s]
            exact go
          | none =>
            rw [hmv] at go
            refine zt_250p hm eW2 ?_
            simp only [forall_eq, ↓zqI_r, ↓zqL_r, ↓zqD_r, ↓zqF_r, ↓zqV_r, ↓zqR_r, ↓zqR_s]
            exact go
  · rintro rec s' ⟨M', W, rfl, hkc, _⟩
    omega
end ZTA
