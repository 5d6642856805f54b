/-! THE REFERENCE: lists, changes -/
def zs_bg (V : zs_V) : zs_V := fun k => if 6 ≤ k ∧ k ≤ 10 then 0 else V k
def zs_ci (b : Bool) : Nat := if b then 4 else 5
def zs_cb (b : Bool) : Nat := if b then 51 else 56
/-- the i-th is taken out of the list -/
def zs_rm (V : zs_V) (b : Bool) (i : Nat) : zs_V := fun k => if k = zs_ci b then V (zs_ci b) - 1 else if k = zs_cb b + (zs_lc V b - 1) then 0 else if zs_cb b + i ≤ k ∧ k < zs_cb b + (zs_lc V b - 1) then V (k + 1) else V k
/-- of the first k those go that don't fit, the last one first -/
def zs_kf (b : Bool) : Nat → zs_V → zs_V
  | 0, V => V
  | k + 1, V => zs_kf b k (if zs_w V 0 (zs_li V b k) ≤ zs_cap V then V else zs_rm V b k)
def zs_chg (V : zs_V) (a : Nat) (x : Int32) : zs_V :=
  let V1 := zs_bg (va_up V a x)
  let V2 := zs_kf true (zs_lc V1 true) V1
  zs_kf false (zs_lc V2 false) V2
theorem zs_ok.lc {V : zs_V} (h : zs_ok V) (b : Bool) : V (zs_ci b) = nI (zs_lc V b) ∧ zs_lc V b ≤ 5 := by
  obtain ⟨n, h1, h2⟩ := (h.2.2.2.2.2.1 b).1
  have e : zs_lc V b = n := by unfold zs_lc; rw [h2, nI_cl (by omega)]
  rw [e]
  exact ⟨h2, h1⟩
theorem zs_ok.li {V : zs_V} (h : zs_ok V) {b : Bool} {i : Nat} (hi : i < zs_lc V b) : V (zs_cb b + i) = nI (zs_li V b i) ∧ zs_li V b i < zs_all V := by
  have hA := h.all
  obtain ⟨s, h1, h2⟩ := (h.2.2.2.2.2.1 b).2 i hi
  have e : zs_li V b i = s := by unfold zs_li; rw [h2, nI_cl (by omega)]
  rw [e]
  exact ⟨h2, h1⟩
/-- the same but for lists and the game: sums are the same -/
def zs_sim (V W : zs_V) : Prop := ∀ k, k ≤ 3 ∨ (11 ≤ k ∧ k < 51) → W k = V k
theorem zs_sim.n {V W : zs_V} (h : zs_sim V W) : zs_n W = zs_n V := by unfold zs_n; rw [h 0 (by omega)]
theorem zs_sim.p {V W : zs_V} (h : zs_sim V W) {k f : Nat} (hk : k < 10) (hf : f ≤ 3) : zs_p W k f = zs_p V k f := by unfold zs_p; rw [h _ (by omega)]
theorem zs_sim.w {V W : zs_V} (h : zs_sim V W) (hn : zs_n V ≤ 10) {f : Nat} (hf : f ≤ 3) (s : Nat) : zs_w W f s = zs_w V f s := by
  unfold zs_w
  rw [h.n]
  have key : ∀ k, k ≤ 10 → zs_sm W f s k = zs_sm V f s k := by
    intro k
    induction k with
    | zero => intro _; rfl
    | succ k ih => intro hk; simp only [zs_sm, ih (by omega), h.p (show k < 10 by omega) hf]
  exact key _ hn
theorem zs_sim.cap {V W : zs_V} (h : zs_sim V W) : zs_cap W = zs_cap V := by unfold zs_cap; rw [h 1 (by omega)]
theorem zs_sim.all {V W : zs_V} (h : zs_sim V W) : zs_all W = zs_all V := by unfold zs_all; rw [h.n]
theorem zs_ci_lt (b : Bool) : 4 ≤ zs_ci b ∧ zs_ci b ≤ 5 ∧ 51 ≤ zs_cb b ∧ zs_cb b ≤ 56 := by cases b <;> simp [zs_ci, zs_cb]
theorem zs_rm_sim (V : zs_V) (b : Bool) (i : Nat) : zs_sim V (zs_rm V b i) := by
  intro k hk
  have := zs_ci_lt b
  unfold zs_rm
  rw [if_neg (by omega), if_neg (by omega), if_neg (by omega)]
theorem zs_rm_lc {V : zs_V} (h : zs_ok V) {b : Bool} {i : Nat} (hi : i < zs_lc V b) : zs_lc (zs_rm V b i) b = zs_lc V b - 1 ∧ zs_rm V b i (zs_ci b) = nI (zs_lc V b - 1) := by
  have hl := h.lc b
  have e : zs_rm V b i (zs_ci b) = nI (zs_lc V b - 1) := by
    unfold zs_rm
    rw [if_pos rfl, hl.1]
    exact zn_sub (b := 1) (by omega)
  refine ⟨?_, e⟩
  have : zs_lc (zs_rm V b i) b = (zs_rm V b i (zs_ci b)).toNatClampNeg := rfl
  rw [this, e, nI_cl (by omega)]
theorem zs_rm_lc2 {V : zs_V} (h : zs_ok V) {b b' : Bool} {i : Nat} (hne : b' ≠ b) : zs_lc (zs_rm V b i) b' = zs_lc V b' ∧ (∀ k, k < 5 → zs_rm V b i (zs_cb b' + k) = V (zs_cb b' + k)) ∧ zs_rm V b i (zs_ci b') = V (zs_ci b') := by
  have hl := h.lc b
  have hc : zs_ci b' ≠ zs_ci b := by cases b <;> cases b' <;> simp_all [zs_ci]
  have hcb : zs_cb b' + 5 ≤ zs_cb b ∨ zs_cb b + 5 ≤ zs_cb b' := by cases b <;> cases b' <;> simp_all [zs_cb]
  have h1 := zs_ci_lt b
  have h2 := zs_ci_lt b'
  have e : zs_rm V b i (zs_ci b') = V (zs_ci b') := by
    unfold zs_rm
    rw [if_neg hc, if_neg (by omega), if_neg (by omega)]
  refine ⟨?_, fun k hk => ?_, e⟩
  · have : zs_lc (zs_rm V b i) b' = (zs_rm V b i (zs_ci b')).toNatClampNeg := rfl
    rw [this, e]
    rfl
  · unfold zs_rm
    rw [if_neg (by omega)]
    by_cases h0 : zs_lc V b = 0
    · rw [if_neg (by omega), if_neg (by omega)]
    · rw [if_neg (by omega), if_neg (by omega)]
theorem zs_rm_li {V : zs_V} (h : zs_ok V) {b : Bool} {i k : Nat} (hi : i < zs_lc V b) (hk : k < zs_lc V b - 1) : zs_rm V b i (zs_cb b + k) = V (zs_cb b + (if k < i then k else k + 1)) := by
  have h1 := zs_ci_lt b
  unfold zs_rm
  rw [if_neg (by omega), if_neg (by omega)]
  by_cases hc : k < i
  · rw [if_neg (by omega), if_pos hc]
  · rw [if_pos (by omega), if_neg hc]
    rfl
theorem zs_rm_ok {V : zs_V} (h : zs_ok V) {b : Bool} {i : Nat} (hi : i < zs_lc V b) : zs_ok (zs_rm V b i) := by
  have hs := zs_rm_sim V b i
  have hl := h.lc b
  have hn := h.n0
  have hb := zs_ci_lt b
  have hg : ∀ k, 6 ≤ k → k ≤ 9 → zs_rm V b i k = V k := by
    intro k h1 h2
    unfold zs_rm
    rw [if_neg (by omega), if_neg (by omega), if_neg (by omega)]
  obtain ⟨a1, a2, a3, a4, a5, a6, a7, a8, a9, a10⟩ := h
  refine ⟨?_, ?_, ?_, ?_, ?_, ?_, ?_, ?_, ?_, ?_⟩
  · rw [hs 0 (by omega)]; exact a1
  · rw [hs 1 (by omega)]; exact a2
  · rw [hs 2 (by omega)]; exact a3
  · rw [hs 3 (by omega)]; exact a4
  · intro k hk
    rw [hs.n] at hk
    have := a5 k hk
    rw [hs.p (by omega) (by omega)]
    refine ⟨this.1, this.2.1, fun f h1 h2 => ?_⟩
    rw [hs.p (by omega) h2]
    exact this.2.2 f h1 h2
  · intro b'
    rw [hs.all]
    by_cases e : b' = b
    · subst e
      have h2 := zs_rm_lc ⟨a1, a2, a3, a4, a5, a6, a7, a8, a9, a10⟩ hi
      refine ⟨⟨zs_lc V b' - 1, by omega, h2.2⟩, fun k hk => ?_⟩
      rw [h2.1] at hk
      have h3 := zs_rm_li ⟨a1, a2, a3, a4, a5, a6, a7, a8, a9, a10⟩ hi hk
      obtain ⟨s, g1, g2⟩ := (a6 b').2 (if k < i then k else k + 1) (by by_cases hc : k < i <;> simp only [hc, if_true, if_false] <;> omega)
      exact ⟨s, g1, h3.trans g2⟩
    · have h2 := zs_rm_lc2 ⟨a1, a2, a3, a4, a5, a6, a7, a8, a9, a10⟩ (i := i) e
      obtain ⟨⟨c, g1, g2⟩, g3⟩ := a6 b'
      refine ⟨⟨c, g1, h2.2.2.trans g2⟩, fun k hk => ?_⟩
      rw [h2.1] at hk
      obtain ⟨s, g4, g5⟩ := g3 k hk
      have hl' := (zs_ok.lc ⟨a1, a2, a3, a4, a5, a6, a7, a8, a9, a10⟩ b').2
      exact ⟨s, g4, (h2.2.1 k (by omega)).trans g5⟩
  · rw [hg 6 (by omega) (by omega), hs.all]; exact a7
  · rw [hg 7 (by omega) (by omega), hs.all]; exact a8
  · rw [hg 8 (by omega) (by omega)]; exact a9
  · rw [hg 9 (by omega) (by omega)]; exact a10
theorem zt_sA2 {M : zt_M} {j : Nat} {f g : Nat → Int32} : (M.sA j f).sA j g = M.sA j g := by
  unfold zt_M.sA
  rw [zt_up2]
theorem zt_sAj {M : zt_M} {j : Nat} {f : Nat → Int32} : (M.sA j f).2.2.1 j = f := va_up_self _ _ _
section ZT7
variable {G : zPg} {n : Nat} {σ : zS} {m : Nat} {N : Nat → Option Nat} {M : zt_M} {Q : zQ} {Y : zY} {V : zs_V}
theorem zt_239 (hm : G.1 ≤ m) (hM : M.2.2.1 1 = V) (h : Q none (zt_S σ m N (M.sA 1 (zs_bg V)))) : zCall G (n + 1) 239 [.ref m] Q Y (zt_S σ m N M) := by
  refine ze239 ⟨_, rfl, ?_⟩
  refine zf2 6 11 (fun q s' => ∃ f, s' = zt_S σ m N (M.sA 1 f) ∧ f = fun k => if 6 ≤ k ∧ k < q then 0 else V k) (by omega) ?_ ?_ ⟨V, ?_, ?_⟩
  · rintro rec q s' h1 hq ⟨f, rfl, hf⟩ hrec
    refine ⟨fun h9 => absurd h9 (nI_nlt (a := 10) (by omega) (by omega)), fun _ => ?_⟩
    simp only [↓zt_rc, ↓zt_g0, ↓zt_g1, ↓zt_g2, ↓zt_g3, ↓zt_g4, ↓zt_g5, ↓zt_g6, ↓zt_g7, ↓zt_g8, ↓zt_g9, ↓zt_g10, ↓zt_g11, ↓zt_g12, ↓zt_g13, ↓zt_g14, ↓zt_g15, ↓zt_g16, ↓zt_g17, ↓zt_g18, ↓zt_g19, ↓zt_g20, ↓zt_g21, ↓zt_g22, ↓zt_g23, ↓zt_g24, ↓zt_g25, ↓zt_g26, ↓zt_g27, ↓zt_g28, ↓zt_g29, ↓zt_g30, ↓zt_g31, ↓zt_g32, ↓zt_g33, ↓zt_g34, ↓zt_g35, ↓zt_g36, ↓zt_g37, ↓zt_g38, ↓zt_g39, ↓zt_g40, ↓zt_p4 hm, ↓zt_p5 hm, ↓zt_p6 hm, ↓zt_p15 hm, ↓zt_p21 hm, ↓zt_p22 hm, ↓zt_p23 hm, ↓zt_p26 hm, ↓zt_p28 hm, ↓zt_p29 hm, ↓zt_p30 hm, ↓zt_p31 hm, ↓zt_p32 hm, ↓zt_p33 hm, ↓zt_p34 hm, ↓zt_p35 hm, ↓zt_p36 hm, ↓zt_p40 hm, ↓zt_p19 hm, ↓zt_p20 hm, ↓zt_a1, ↓zt_a2, ↓zt_a3, ↓zt_a4, ↓zt_a5, ↓zt_a6, ↓zt_a7, ↓zt_a8, ↓zt_a9, ↓zt_a10, ↓zt_a11, ↓zt_a12, ↓zt_a13, ↓zt_a14, ↓zt_a15, ↓zt_a16, ↓zt_a17, ↓zt_a18, ↓zt_a19, ↓zt_a20, ↓zt_a21, ↓zt_s1 hm, ↓zt_s2 hm, ↓zt_s3 hm, ↓zt_s4 hm, ↓zt_s5 hm, ↓zt_s6 hm, ↓zt_s7 hm, ↓zt_s8 hm, ↓zt_s9 hm, ↓zt_s10 hm, ↓zt_s11 hm, ↓zt_s12 hm, ↓zt_s16 hm, ↓zt_s17 hm, ↓zt_s18 hm, ↓zt_s20 hm, ↓zt_s13 hm, ↓zt_s14 hm, ↓zt_s15 hm, ↓zt_s21 hm, ↓zt_l19, ↓zt_l17, forall_eq, ↓zqI_r, ↓zqL_r, ↓zqD_r, ↓zqF_r, ↓zqV_r, ↓zqR_r, ↓zqR_s, zboolb, zbool0, zbool1, true_and, and_true, nI_cl (show q < 2147483648 by omega)]
    refine ⟨nI_i (by omega) (by omega), hrec _ ⟨fun k => if 6 ≤ k ∧ k < q + 1 then 0 else V k, ?_, rfl⟩⟩
    congr 1
    rw [zt_sA2, va_up_self]
    refine congrArg (zt_M.sA M 1) (funext fun k => ?_)
    unfold va_up
    rw [hf]
    dsimp only
    by_cases e : k = q
    · rw [if_pos e, if_pos (by omega)]
    · rw [if_neg e]
      by_cases h2 : 6 ≤ k ∧ k < q
      · rw [if_pos h2, if_pos (by omega)]
      · rw [if_neg h2, if_neg (by omega)]
  · rintro rec s' ⟨f, rfl, hf⟩
    refine ⟨fun _ => ?_, fun h9 => absurd (nI_lt (a := 10) (b := 11) (by omega) (by omega)) h9⟩
    have : f = zs_bg V := by
      rw [hf]
      funext k
      unfold zs_bg
      by_cases h2 : 6 ≤ k ∧ k < 11
      · rw [if_pos h2, if_pos (by omega)]
      · rw [if_neg h2, if_neg (by omega)]
    rw [this]
    exact h
  · rw [← hM]
    unfold zt_M.sA
    rw [zt_up0]
  · funext k
    rw [if_neg (by omega)]
theorem zx_ci {b : Bool} {x : Int32} (hx : x = 0 ↔ b = false) : (if x = 0 then (5 : Int32) else 4) = nI (zs_ci b) ∧ (if x = 0 then 5 else 4) = zs_ci b ∧ ∀ y : Nat, (51 : Int32) + (if x = 0 then (5 : Int32) else 0) + nI y = nI (zs_cb b + y) := by
  cases b with
  | false =>
    rw [if_pos (hx.mpr rfl), if_pos (hx.mpr rfl), if_pos (hx.mpr rfl)]
    refine ⟨rfl, rfl, fun y => ?_⟩
    show nI 51 + nI 5 + nI y = _
    rw [nI_add, nI_add]
    rfl
  | true =>
    have : ¬ x = 0 := fun e => by have := hx.mp e; cases this
    rw [if_neg this, if_neg this, if_neg this]
    refine ⟨rfl, rfl, fun y => ?_⟩
    show nI 51 + nI 0 + nI y = _
    rw [nI_add, nI_add]
    rfl
theorem zt_241 (hm : G.1 ≤ m) (hM : M.2.2.1 1 = V) (hV : zs_ok V) {b : Bool} {x : Int32} (hx : x = 0 ↔ b = false) {i : Nat} (hi : i < zs_lc V b) (h : Q none (zt_S σ m N (M.sA 1 (zs_rm V b i)))) : zCall G (n + 3) 241 [.ref m, .int x, .int (nI i)] Q Y (zt_S σ m N M) := by
  have hl := hV.lc b
  have hb := zs_ci_lt b
  obtain ⟨x1, x2, x3⟩ := zx_ci hx
  have hci : (nI (zs_ci b)).toNatClampNeg = zs_ci b := nI_cl (by omega)
  have e1 : nI (zs_lc V b) - 1 = nI (zs_lc V b - 1) := zn_sub (b := 1) (by omega)
  refine ze241 ⟨_, _, _, rfl, ?_⟩
  simp only [↓zt_rc, ↓zt_g0, ↓zt_g1, ↓zt_g2, ↓zt_g3, ↓zt_g4, ↓zt_g5, ↓zt_g6, ↓zt_g7, ↓zt_g8, ↓zt_g9, ↓zt_g10, ↓zt_g11, ↓zt_g12, ↓zt_g13, ↓zt_g14, ↓zt_g15, ↓zt_g16, ↓zt_g17, ↓zt_g18, ↓zt_g19, ↓zt_g20, ↓zt_g21, ↓zt_g22, ↓zt_g23, ↓zt_g24, ↓zt_g25, ↓zt_g26, ↓zt_g27, ↓zt_g28, ↓zt_g29, ↓zt_g30, ↓zt_g31, ↓zt_g32, ↓zt_g33, ↓zt_g34, ↓zt_g35, ↓zt_g36, ↓zt_g37, ↓zt_g38, ↓zt_g39, ↓zt_g40, ↓zt_p4 hm, ↓zt_p5 hm, ↓zt_p6 hm, ↓zt_p15 hm, ↓zt_p21 hm, ↓zt_p22 hm, ↓zt_p23 hm, ↓zt_p26 hm, ↓zt_p28 hm, ↓zt_p29 hm, ↓zt_p30 hm, ↓zt_p31 hm, ↓zt_p32 hm, ↓zt_p33 hm, ↓zt_p34 hm, ↓zt_p35 hm, ↓zt_p36 hm, ↓zt_p40 hm, ↓zt_p19 hm, ↓zt_p20 hm, ↓zt_a1, ↓zt_a2, ↓zt_a3, ↓zt_a4, ↓zt_a5, ↓zt_a6, ↓zt_a7, ↓zt_a8, ↓zt_a9, ↓zt_a10, ↓zt_a11, ↓zt_a12, ↓zt_a13, ↓zt_a14, ↓zt_a15, ↓zt_a16, ↓zt_a17, ↓zt_a18, ↓zt_a19, ↓zt_a20, ↓zt_a21, ↓zt_s1 hm, ↓zt_s2 hm, ↓zt_s3 hm, ↓zt_s4 hm, ↓zt_s5 hm, ↓zt_s6 hm, ↓zt_s7 hm, ↓zt_s8 hm, ↓zt_s9 hm, ↓zt_s10 hm, ↓zt_s11 hm, ↓zt_s12 hm, ↓zt_s16 hm, ↓zt_s17 hm, ↓zt_s18 hm, ↓zt_s20 hm, ↓zt_s13 hm, ↓zt_s14 hm, ↓zt_s15 hm, ↓zt_s21 hm, ↓zt_l19, ↓zt_l17, forall_eq, ↓zqI_r, ↓zqL_r, ↓zqD_r, ↓zqF_r, ↓zqV_r, ↓zqR_r, ↓zqR_s, zboolb, zbool0, zbool1, true_and, and_true, ↓zl_190, x1, hci, hM, hl.1, e1]
  refine ⟨nI_i (by omega) (by omega), nI_i (by omega) (by omega), ?_⟩
  refine zf2 i (zs_lc V b - 1) (fun q s' => ∃ f, s' = zt_S σ m N (M.sA 1 f) ∧ f = fun k => if k = zs_ci b then nI (zs_lc V b - 1) else if zs_cb b + i ≤ k ∧ k < zs_cb b + q then V (k + 1) else V k) (by omega) ?_ ?_ ⟨_, rfl, ?_⟩
  · rintro rec q s' h1 hq ⟨f, rfl, hf⟩ hrec
    have e2 : f (zs_ci b) = nI (zs_lc V b - 1) := by rw [hf]; exact if_pos rfl
    have e3 : nI q + 1 = nI (q + 1) := nI_1 q
    simp only [↓zt_rc, ↓zt_g0, ↓zt_g1, ↓zt_g2, ↓zt_g3, ↓zt_g4, ↓zt_g5, ↓zt_g6, ↓zt_g7, ↓zt_g8, ↓zt_g9, ↓zt_g10, ↓zt_g11, ↓zt_g12, ↓zt_g13, ↓zt_g14, ↓zt_g15, ↓zt_g16, ↓zt_g17, ↓zt_g18, ↓zt_g19, ↓zt_g20, ↓zt_g21, ↓zt_g22, ↓zt_g23, ↓zt_g24, ↓zt_g25, ↓zt_g26, ↓zt_g27, ↓zt_g28, ↓zt_g29, ↓zt_g30, ↓zt_g31, ↓zt_g32, ↓zt_g33, ↓zt_g34, ↓zt_g35, ↓zt_g36, ↓zt_g37, ↓zt_g38, ↓zt_g39, ↓zt_g40, ↓zt_p4 hm, ↓zt_p5 hm, ↓zt_p6 hm, ↓zt_p15 hm, ↓zt_p21 hm, ↓zt_p22 hm, ↓zt_p23 hm, ↓zt_p26 hm, ↓zt_p28 hm, ↓zt_p29 hm, ↓zt_p30 hm, ↓zt_p31 hm, ↓zt_p32 hm, ↓zt_p33 hm, ↓zt_p34 hm, ↓zt_p35 hm, ↓zt_p36 hm, ↓zt_p40 hm, ↓zt_p19 hm, ↓zt_p20 hm, ↓zt_a1, ↓zt_a2, ↓zt_a3, ↓zt_a4, ↓zt_a5, ↓zt_a6, ↓zt_a7, ↓zt_a8, ↓zt_a9, ↓zt_a10, ↓zt_a11, ↓zt_a12, ↓zt_a13, ↓zt_a14, ↓zt_a15, ↓zt_a16, ↓zt_a17, ↓zt_a18, ↓zt_a19, ↓zt_a20, ↓zt_a21, ↓zt_s1 hm, ↓zt_s2 hm, ↓zt_s3 hm, ↓zt_s4 hm, ↓zt_s5 hm, ↓zt_s6 hm, ↓zt_s7 hm, ↓zt_s8 hm, ↓zt_s9 hm, ↓zt_s10 hm, ↓zt_s11 hm, ↓zt_s12 hm, ↓zt_s16 hm, ↓zt_s17 hm, ↓zt_s18 hm, ↓zt_s20 hm, ↓zt_s13 hm, ↓zt_s14 hm, ↓zt_s15 hm, ↓zt_s21 hm, ↓zt_l19, ↓zt_l17, forall_eq, ↓zqI_r, ↓zqL_r, ↓zqD_r, ↓zqF_r, ↓zqV_r, ↓zqR_r, ↓zqR_s, zboolb, zbool0, zbool1, true_and, and_true, ↓zl_189, ↓zl_192, x2, e3, x3, va_up_self, e2, nI_cl (show zs_cb b + q < 2147483648 by omega), nI_cl (show zs_cb b + (q + 1) < 2147483648 by omega)]
    refine ⟨fun h9 => absurd h9 (nI_ge hq (by omega)), fun _ => ⟨nI_i (by omega) (by omega), nI_i (by omega) (by omega), ?_⟩⟩
    have := hrec _ ⟨fun k => if k = zs_ci b then nI (zs_lc V b - 1) else if zs_cb b + i ≤ k ∧ k < zs_cb b + (q + 1) then V (k + 1) else V k, rfl, rfl⟩
    rw [e3] at this
    refine (congrArg (rec (nI (q + 1))) ?_).mp this
    congr 1
    rw [zt_sA2]
    refine congrArg (zt_M.sA M 1) (funext fun k => ?_)
    unfold va_up
    have e4 : f (zs_cb b + (q + 1)) = V (zs_cb b + (q + 1)) := by
      rw [hf]
      show (if zs_cb b + (q + 1) = zs_ci b then _ else if _ then _ else _) = _
      rw [if_neg (by omega), if_neg (by omega)]
    rw [e4]
    by_cases e : k = zs_cb b + q
    · rw [if_pos e, if_neg (by omega), if_pos (by omega), e]
      rfl
    · rw [if_neg e, hf]
      dsimp only
      by_cases h2 : k = zs_ci b
      · rw [if_pos h2, if_pos h2]
      · rw [if_neg h2, if_neg h2]
        by_cases h3 : zs_cb b + i ≤ k ∧ k < zs_cb b + q
        · rw [if_pos h3, if_pos (by omega)]
        · rw [if_neg h3, if_neg (by omega)]
  · rintro rec s' ⟨f, rfl, hf⟩
    have e2 : f (zs_ci b) = nI (zs_lc V b - 1) := by rw [hf]; exact if_pos rfl
    simp only [↓zt_rc, ↓zt_g0, ↓zt_g1, ↓zt_g2, ↓zt_g3, ↓zt_g4, ↓zt_g5, ↓zt_g6, ↓zt_g7, ↓zt_g8, ↓zt_g9, ↓zt_g10, ↓zt_g11, ↓zt_g12, ↓zt_g13, ↓zt_g14, ↓zt_g15, ↓zt_g16, ↓zt_g17, ↓zt_g18, ↓zt_g19, ↓zt_g20, ↓zt_g21, ↓zt_g22, ↓zt_g23, ↓zt_g24, ↓zt_g25, ↓zt_g26, ↓zt_g27, ↓zt_g28, ↓zt_g29, ↓zt_g30, ↓zt_g31, ↓zt_g32, ↓zt_g33, ↓zt_g34, ↓zt_g35, ↓zt_g36, ↓zt_g37, ↓zt_g38, ↓zt_g39, ↓zt_g40, ↓zt_p4 hm, ↓zt_p5 hm, ↓zt_p6 hm, ↓zt_p15 hm, ↓zt_p21 hm, ↓zt_p22 hm, ↓zt_p23 hm, ↓zt_p26 hm, ↓zt_p28 hm, ↓zt_p29 hm, ↓zt_p30 hm, ↓zt_p31 hm, ↓zt_p32 hm, ↓zt_p33 hm, ↓zt_p34 hm, ↓zt_p35 hm, ↓zt_p36 hm, ↓zt_p40 hm, ↓zt_p19 hm, ↓zt_p20 hm, ↓zt_a1, ↓zt_a2, ↓zt_a3, ↓zt_a4, ↓zt_a5, ↓zt_a6, ↓zt_a7, ↓zt_a8, ↓zt_a9, ↓zt_a10, ↓zt_a11, ↓zt_a12, ↓zt_a13, ↓zt_a14, ↓zt_a15, ↓zt_a16, ↓zt_a17, ↓zt_a18, ↓zt_a19, ↓zt_a20, ↓zt_a21, ↓zt_s1 hm, ↓zt_s2 hm, ↓zt_s3 hm, ↓zt_s4 hm, ↓zt_s5 hm, ↓zt_s6 hm, ↓zt_s7 hm, ↓zt_s8 hm, ↓zt_s9 hm, ↓zt_s10 hm, ↓zt_s11 hm, ↓zt_s12 hm, ↓zt_s16 hm, ↓zt_s17 hm, ↓zt_s18 hm, ↓zt_s20 hm, ↓zt_s13 hm, ↓zt_s14 hm, ↓zt_s15 hm, ↓zt_s21 hm, ↓zt_l19, ↓zt_l17, forall_eq, ↓zqI_r, ↓zqL_r, ↓zqD_r, ↓zqF_r, ↓zqV_r, ↓zqR_r, ↓zqR_s, zboolb, zbool0, zbool1, true_and, and_true, ↓zl_189, ↓zl_192, x2, x3, va_up_self, e2, nI_cl (show zs_cb b + (zs_lc V b - 1) < 2147483648 by omega)]
    refine ⟨fun _ => ⟨nI_i (by omega) (by omega), ?_⟩, fun h9 => absurd (nI_le (Nat.le_refl _) (by omega)) h9⟩
    refine (congrArg (Q none) ?_).mp h
    congr 1
    rw [zt_sA2]
    refine congrArg (zt_M.sA M 1) (funext fun k => ?_)
    unfold va_up zs_rm
    rw [hl.1, e1]
    by_cases e : k = zs_cb b + (zs_lc V b - 1)
    · rw [if_pos e, if_neg (by omega), if_pos e]
    · rw [if_neg e, if_neg e, hf]
  · funext k
    unfold va_up
    by_cases e : k = zs_ci b
    · rw [if_pos e, if_pos e]
    · rw [if_neg e, if_neg e, if_neg (by omega)]
theorem zt_240 (hm : G.1 ≤ m) {b : Bool} {x : Int32} (hx : x = 0 ↔ b = false) (hM : M.2.2.1 1 = V) (hV : zs_ok V) (h : ∀ W, W = zs_kf b (zs_lc V b) V → zs_ok W → Q none (zt_S σ m N (M.sA 1 W))) : zCall G (n + 4) 240 [.ref m, .int x] Q Y (zt_S σ m N M) := by
  have hl := hV.lc b
  obtain ⟨x1, x2, x3⟩ := zx_ci hx
  have hb := zs_ci_lt b
  have e1 : nI (zs_lc V b) - 1 = iI ((zs_lc V b : Int) - 1) := by
    show iI (zs_lc V b) - iI 1 = _
    rw [iI_sub]
  refine ze240 ⟨_, _, rfl, ?_⟩
  simp only [↓zt_rc, ↓zt_g0, ↓zt_g1, ↓zt_g2, ↓zt_g3, ↓zt_g4, ↓zt_g5, ↓zt_g6, ↓zt_g7, ↓zt_g8, ↓zt_g9, ↓zt_g10, ↓zt_g11, ↓zt_g12, ↓zt_g13, ↓zt_g14, ↓zt_g15, ↓zt_g16, ↓zt_g17, ↓zt_g18, ↓zt_g19, ↓zt_g20, ↓zt_g21, ↓zt_g22, ↓zt_g23, ↓zt_g24, ↓zt_g25, ↓zt_g26, ↓zt_g27, ↓zt_g28, ↓zt_g29, ↓zt_g30, ↓zt_g31, ↓zt_g32, ↓zt_g33, ↓zt_g34, ↓zt_g35, ↓zt_g36, ↓zt_g37, ↓zt_g38, ↓zt_g39, ↓zt_g40, ↓zt_p4 hm, ↓zt_p5 hm, ↓zt_p6 hm, ↓zt_p15 hm, ↓zt_p21 hm, ↓zt_p22 hm, ↓zt_p23 hm, ↓zt_p26 hm, ↓zt_p28 hm, ↓zt_p29 hm, ↓zt_p30 hm, ↓zt_p31 hm, ↓zt_p32 hm, ↓zt_p33 hm, ↓zt_p34 hm, ↓zt_p35 hm, ↓zt_p36 hm, ↓zt_p40 hm, ↓zt_p19 hm, ↓zt_p20 hm, ↓zt_a1, ↓zt_a2, ↓zt_a3, ↓zt_a4, ↓zt_a5, ↓zt_a6, ↓zt_a7, ↓zt_a8, ↓zt_a9, ↓zt_a10, ↓zt_a11, ↓zt_a12, ↓zt_a13, ↓zt_a14, ↓zt_a15, ↓zt_a16, ↓zt_a17, ↓zt_a18, ↓zt_a19, ↓zt_a20, ↓zt_a21, ↓zt_s1 hm, ↓zt_s2 hm, ↓zt_s3 hm, ↓zt_s4 hm, ↓zt_s5 hm, ↓zt_s6 hm, ↓zt_s7 hm, ↓zt_s8 hm, ↓zt_s9 hm, ↓zt_s10 hm, ↓zt_s11 hm, ↓zt_s12 hm, ↓zt_s16 hm, ↓zt_s17 hm, ↓zt_s18 hm, ↓zt_s20 hm, ↓zt_s13 hm, ↓zt_s14 hm, ↓zt_s15 hm, ↓zt_s21 hm, ↓zt_l19, ↓zt_l17, forall_eq, ↓zqI_r, ↓zqL_r, ↓zqD_r, ↓zqF_r, ↓zqV_r, ↓zqR_r, ↓zqR_s, zboolb, zbool0, zbool1, true_and, and_true, ↓zl_189, x2, hM, hl.1, e1]
  refine zfd2 (zs_lc V b) (fun k s' => ∃ W, s' = zt_S σ m N (M.sA 1 W) ∧ zs_ok W ∧ k ≤ zs_lc W b ∧ zs_kf b k W = zs_kf b (zs_lc V b) V) ?_ ?_ rfl ⟨V, by rw [← hM]; unfold zt_M.sA; rw [zt_up0], hV, Nat.le_refl _, rfl⟩
  · rintro rec k s' hk ⟨W, rfl, hW, hlw, hkf⟩ hrec
    refine ⟨fun h9 => absurd h9 (nI_pos (by omega)), fun _ => ?_⟩
    have hli := hW.li (b := b) (i := k) (by omega)
    have hlw5 := (hW.lc b).2
    have hA := hW.all
    have hw := zs_w_b hW (f := 0) (by omega) (zs_li W b k)
    have hc := hW.c1
    simp only [↓zt_rc, ↓zt_g0, ↓zt_g1, ↓zt_g2, ↓zt_g3, ↓zt_g4, ↓zt_g5, ↓zt_g6, ↓zt_g7, ↓zt_g8, ↓zt_g9, ↓zt_g10, ↓zt_g11, ↓zt_g12, ↓zt_g13, ↓zt_g14, ↓zt_g15, ↓zt_g16, ↓zt_g17, ↓zt_g18, ↓zt_g19, ↓zt_g20, ↓zt_g21, ↓zt_g22, ↓zt_g23, ↓zt_g24, ↓zt_g25, ↓zt_g26, ↓zt_g27, ↓zt_g28, ↓zt_g29, ↓zt_g30, ↓zt_g31, ↓zt_g32, ↓zt_g33, ↓zt_g34, ↓zt_g35, ↓zt_g36, ↓zt_g37, ↓zt_g38, ↓zt_g39, ↓zt_g40, ↓zt_p4 hm, ↓zt_p5 hm, ↓zt_p6 hm, ↓zt_p15 hm, ↓zt_p21 hm, ↓zt_p22 hm, ↓zt_p23 hm, ↓zt_p26 hm, ↓zt_p28 hm, ↓zt_p29 hm, ↓zt_p30 hm, ↓zt_p31 hm, ↓zt_p32 hm, ↓zt_p33 hm, ↓zt_p34 hm, ↓zt_p35 hm, ↓zt_p36 hm, ↓zt_p40 hm, ↓zt_p19 hm, ↓zt_p20 hm, ↓zt_a1, ↓zt_a2, ↓zt_a3, ↓zt_a4, ↓zt_a5, ↓zt_a6, ↓zt_a7, ↓zt_a8, ↓zt_a9, ↓zt_a10, ↓zt_a11, ↓zt_a12, ↓zt_a13, ↓zt_a14, ↓zt_a15, ↓zt_a16, ↓zt_a17, ↓zt_a18, ↓zt_a19, ↓zt_a20, ↓zt_a21, ↓zt_s1 hm, ↓zt_s2 hm, ↓zt_s3 hm, ↓zt_s4 hm, ↓zt_s5 hm, ↓zt_s6 hm, ↓zt_s7 hm, ↓zt_s8 hm, ↓zt_s9 hm, ↓zt_s10 hm, ↓zt_s11 hm, ↓zt_s12 hm, ↓zt_s16 hm, ↓zt_s17 hm, ↓zt_s18 hm, ↓zt_s20 hm, ↓zt_s13 hm, ↓zt_s14 hm, ↓zt_s15 hm, ↓zt_s21 hm, ↓zt_l19, ↓zt_l17, forall_eq, ↓zqI_r, ↓zqL_r, ↓zqD_r, ↓zqF_r, ↓zqV_r, ↓zqR_r, ↓zqR_s, zboolb, zbool0, zbool1, true_and, and_true, ↓zl_191, x3, va_up_self, nI_cl (show zs_cb b + k < 2147483648 by omega), hli.1]
    refine ⟨nI_i (by omega) (by omega), ?_⟩
    refine zt_160 (by exact zt_sAj) hW (by omega) ?_
    have e2 : (0 : Int32) ≤ iI (zs_cap W - zs_w W 0 (zs_li W b k)) ↔ zs_w W 0 (zs_li W b k) ≤ zs_cap W := by
      show iI 0 ≤ _ ↔ _
      rw [iI_le (by omega) (by omega) (by omega) (by omega)]
      omega
    simp only [↓zt_rc, ↓zt_g0, ↓zt_g1, ↓zt_g2, ↓zt_g3, ↓zt_g4, ↓zt_g5, ↓zt_g6, ↓zt_g7, ↓zt_g8, ↓zt_g9, ↓zt_g10, ↓zt_g11, ↓zt_g12, ↓zt_g13, ↓zt_g14, ↓zt_g15, ↓zt_g16, ↓zt_g17, ↓zt_g18, ↓zt_g19, ↓zt_g20, ↓zt_g21, ↓zt_g22, ↓zt_g23, ↓zt_g24, ↓zt_g25, ↓zt_g26, ↓zt_g27, ↓zt_g28, ↓zt_g29, ↓zt_g30, ↓zt_g31, ↓zt_g32, ↓zt_g33, ↓zt_g34, ↓zt_g35, ↓zt_g36, ↓zt_g37, ↓zt_g38, ↓zt_g39, ↓zt_g40, ↓zt_p4 hm, ↓zt_p5 hm, ↓zt_p6 hm, ↓zt_p15 hm, ↓zt_p21 hm, ↓zt_p22 hm, ↓zt_p23 hm, ↓zt_p26 hm, ↓zt_p28 hm, ↓zt_p29 hm, ↓zt_p30 hm, ↓zt_p31 hm, ↓zt_p32 hm, ↓zt_p33 hm, ↓zt_p34 hm, ↓zt_p35 hm, ↓zt_p36 hm, ↓zt_p40 hm, ↓zt_p19 hm, ↓zt_p20 hm, ↓zt_a1, ↓zt_a2, ↓zt_a3, ↓zt_a4, ↓zt_a5, ↓zt_a6, ↓zt_a7, ↓zt_a8, ↓zt_a9, ↓zt_a10, ↓zt_a11, ↓zt_a12, ↓zt_a13, ↓zt_a14, ↓zt_a15, ↓zt_a16, ↓zt_a17, ↓zt_a18, ↓zt_a19, ↓zt_a20, ↓zt_a21, ↓zt_s1 hm, ↓zt_s2 hm, ↓zt_s3 hm, ↓zt_s4 hm, ↓zt_s5 hm, ↓zt_s6 hm, ↓zt_s7 hm, ↓zt_s8 hm, ↓zt_s9 hm, ↓zt_s10 hm, ↓zt_s11 hm, ↓zt_s12 hm, ↓zt_s16 hm, ↓zt_s17 hm, ↓zt_s18 hm, ↓zt_s20 hm, ↓zt_s13 hm, ↓zt_s14 hm, ↓zt_s15 hm, ↓zt_s21 hm, ↓zt_l19, ↓zt_l17, forall_eq, ↓zqI_r, ↓zqL_r, ↓zqD_r, ↓zqF_r, ↓zqV_r, ↓zqR_r, ↓zqR_s, zboolb, zbool0, zbool1, true_and, and_true, zJ, e2]
    simp only [zs_kf] at hkf
    refine ⟨fun h1 => hrec _ ⟨W, rfl, hW, by omega, ?_⟩, fun h1 => ?_⟩
    · rw [if_pos h1] at hkf
      exact hkf
    · rw [if_neg h1] at hkf
      refine zt_241 hm (by exact zt_sAj) hW hx (by omega) ?_
      simp only [forall_eq, ↓zqI_r, ↓zqL_r, ↓zqD_r, ↓zqF_r, ↓zqV_r, ↓zqR_r, ↓zqR_s]
      refine hrec _ ⟨zs_rm W b k, ?_, zs_rm_ok hW (by omega), by rw [(zs_rm_lc hW (by omega)).1]; omega, hkf⟩
      rw [zt_sA2]
  · rintro rec s' ⟨W, rfl, hW, hlw, hkf⟩
    exact ⟨fun _ => h W hkf hW, fun h9 => absurd (by decide) h9⟩
end ZT7
