/-! WHAT BOTH PROGRAMS COMPUTE. A duel's state: the reference's row of 61 ints -/
abbrev zs_V : Type := Nat → Int32
def zs_b (c : Prop) [Decidable c] : Int32 := if c then 1 else 0
theorem zs_b0 {c : Prop} [Decidable c] : zs_b c = 0 ↔ ¬ c := by
  unfold zs_b
  by_cases h : c
  · rw [if_pos h]; exact ⟨fun e => absurd e (by decide), fun e => absurd h e⟩
  · rw [if_neg h]; exact ⟨fun _ => h, fun _ => rfl⟩
theorem zs_b1 {c : Prop} [Decidable c] : zs_b c = 1 ↔ c := by
  unfold zs_b
  by_cases h : c
  · rw [if_pos h]; exact ⟨fun _ => h, fun _ => rfl⟩
  · rw [if_neg h]; exact ⟨fun e => absurd e (by decide), fun e => absurd e h⟩
theorem zs_bt {c : Prop} [Decidable c] (h : c) : zs_b c = 1 := if_pos h
theorem zs_bf {c : Prop} [Decidable c] (h : ¬ c) : zs_b c = 0 := if_neg h
theorem zs_bb {c : Prop} [Decidable c] : zbool (zs_b c) := by
  unfold zs_b
  by_cases h : c
  · rw [if_pos h]; exact Or.inr rfl
  · rw [if_neg h]; exact Or.inl rfl
theorem zs_bcong {c d : Prop} [Decidable c] [Decidable d] (h : c ↔ d) : zs_b c = zs_b d := by
  unfold zs_b
  by_cases hc : c
  · rw [if_pos hc, if_pos (h.mp hc)]
  · rw [if_neg hc, if_neg (fun e => hc (h.mpr e))]
theorem zbool0 : zbool 0 ↔ True := ⟨fun _ => trivial, fun _ => Or.inl rfl⟩
theorem zbool1 : zbool 1 ↔ True := ⟨fun _ => trivial, fun _ => Or.inr rfl⟩
theorem zboolb {c : Prop} [Decidable c] : zbool (zs_b c) ↔ True := ⟨fun _ => trivial, fun _ => zs_bb⟩
def zs_n (V : zs_V) : Nat := (V 0).toNatClampNeg
def zs_p (V : zs_V) (k f : Nat) : Int := (V (11 + 4 * k + f)).toInt
/-- the sum of a part over the items of a set, among the first k -/
def zs_sm (V : zs_V) (f s : Nat) : Nat → Int
  | 0 => 0
  | k + 1 => zs_sm V f s k + (if s.testBit k then zs_p V k f else 0)
def zs_w (V : zs_V) (f s : Nat) : Int := zs_sm V f s (zs_n V)
def zs_cap (V : zs_V) : Int := (V 1).toInt
def zs_thr (V : zs_V) : Int := (V 2).toInt
def zs_all (V : zs_V) : Nat := 2 ^ zs_n V
/-- the list's i-th set: of plans, of answers -/
def zs_li (V : zs_V) (b : Bool) (i : Nat) : Nat := (V ((if b then 51 else 56) + i)).toNatClampNeg
def zs_lc (V : zs_V) (b : Bool) : Nat := (V (if b then 4 else 5)).toNatClampNeg
/-- a row that can come up -/
def zs_ok (V : zs_V) : Prop :=
  (∃ n, n ≤ 10 ∧ V 0 = nI n) ∧ (∃ n, n ≤ 200 ∧ V 1 = nI n) ∧ (∃ n, n ≤ 200 ∧ V 2 = nI n) ∧ (V 3 = 0 ∨ V 3 = 1) ∧
  (∀ k, k < zs_n V → 1 ≤ zs_p V k 0 ∧ zs_p V k 0 ≤ 50 ∧ ∀ f, 1 ≤ f → f ≤ 3 → 0 ≤ zs_p V k f ∧ zs_p V k f ≤ 99) ∧
  (∀ b : Bool, (∃ n, n ≤ 5 ∧ V (if b then 4 else 5) = nI n) ∧ ∀ i, i < zs_lc V b → ∃ s, s < zs_all V ∧ V ((if b then 51 else 56) + i) = nI s) ∧
  (∃ s, s < zs_all V ∧ V 6 = nI s) ∧ (∃ s, s < zs_all V ∧ V 7 = nI s) ∧ (V 8 = 0 ∨ V 8 = 1) ∧ (V 9 = 0 ∨ V 9 = 1 ∨ V 9 = 2)
theorem zs_ok.n0 {V : zs_V} (h : zs_ok V) : V 0 = nI (zs_n V) ∧ zs_n V ≤ 10 := by
  obtain ⟨n, h1, h2⟩ := h.1
  have : zs_n V = n := by unfold zs_n; rw [h2, nI_cl (by omega)]
  rw [this]
  exact ⟨h2, h1⟩
theorem zs_ok.c1 {V : zs_V} (h : zs_ok V) : 0 ≤ zs_cap V ∧ zs_cap V ≤ 200 := by
  obtain ⟨n, h1, h2⟩ := h.2.1
  unfold zs_cap
  rw [h2, nI_toInt (by omega)]
  omega
theorem zs_ok.c2 {V : zs_V} (h : zs_ok V) : 0 ≤ zs_thr V ∧ zs_thr V ≤ 200 := by
  obtain ⟨n, h1, h2⟩ := h.2.2.1
  unfold zs_thr
  rw [h2, nI_toInt (by omega)]
  omega
theorem zs_ok.all {V : zs_V} (h : zs_ok V) : 1 ≤ zs_all V ∧ zs_all V ≤ 1024 := by
  unfold zs_all
  have h1 : 2 ^ zs_n V ≤ 2 ^ 10 := Nat.pow_le_pow_right (by omega) h.n0.2
  have h2 : 0 < 2 ^ zs_n V := Nat.two_pow_pos _
  omega
theorem zs_ok.pr {V : zs_V} (h : zs_ok V) {k f : Nat} (hk : k < zs_n V) (hf : f ≤ 3) : 0 ≤ zs_p V k f ∧ zs_p V k f ≤ 99 := by
  obtain ⟨h1, h2, h3⟩ := h.2.2.2.2.1 k hk
  by_cases h0 : f = 0
  · subst h0
    omega
  · exact h3 f (by omega) hf
theorem zs_sm_b {V : zs_V} (h : zs_ok V) {f : Nat} (hf : f ≤ 3) (s : Nat) : ∀ k, k ≤ zs_n V → 0 ≤ zs_sm V f s k ∧ zs_sm V f s k ≤ 99 * k
  | 0, _ => by simp [zs_sm]
  | k + 1, hk => by
    have h1 := zs_sm_b h hf s k (by omega)
    have h2 := h.pr (k := k) (f := f) (by omega) hf
    simp only [zs_sm]
    by_cases hb : s.testBit k = true
    · rw [if_pos hb]; omega
    · rw [if_neg hb]; omega
theorem zs_w_b {V : zs_V} (h : zs_ok V) {f : Nat} (hf : f ≤ 3) (s : Nat) : 0 ≤ zs_w V f s ∧ zs_w V f s ≤ 990 := by
  have h1 := zs_sm_b h hf s (zs_n V) (Nat.le_refl _)
  have h2 := h.n0.2
  unfold zs_w
  omega
/-- whether the refiller would rather have s than t -/
def zs_bet (V : zs_V) (g : Bool) (s t : Nat) : Bool :=
  let gain := if g then zs_w V 2 s - zs_w V 2 t else 0
  let harm := zs_w V 3 s - zs_w V 3 t
  let x := if gain ≠ 0 then gain else if g = true ∧ V 3 = 1 then -harm else harm
  decide (0 < x ∨ (x = 0 ∧ s < t))
def zs_fil (V : zs_V) (g : Bool) (room : Int) (free : Nat) : Nat → Nat → Nat → Nat
  | 0, _, best => best
  | q + 1, set, best => if set = 0 then best else zs_fil V g room free q ((set - 1) &&& free) (if zs_w V 0 set ≤ room ∧ zs_bet V g set best = true then set else best)
def zs_best (V : zs_V) (g : Bool) (p : Nat) : Nat := zs_fil V g (zs_cap V - zs_w V 0 p) (zs_all V - 1 - p) 1024 (zs_all V - 1 - p) 0
def zs_rep (V : zs_V) (g : Bool) (t : Int) (p : Nat) : Nat := if zs_cap V - zs_w V 0 p < t then 0 else zs_best V g p
theorem zs_fil_lt {V : zs_V} {g : Bool} {room : Int} {free N : Nat} (hf : free < N) : ∀ q set best, set < N → best < N → zs_fil V g room free q set best < N
  | 0, _, _, _, h => h
  | q + 1, set, best, h1, h2 => by
    simp only [zs_fil]
    by_cases h0 : set = 0
    · rw [if_pos h0]; exact h2
    · rw [if_neg h0]
      refine zs_fil_lt hf q _ _ (zn_andlt hf) ?_
      by_cases h3 : zs_w V 0 set ≤ room ∧ zs_bet V g set best = true
      · rw [if_pos h3]; exact h1
      · rw [if_neg h3]; exact h2
theorem zs_best_lt {V : zs_V} (h : zs_ok V) {g : Bool} {p : Nat} : zs_best V g p < zs_all V := by
  have := h.all
  exact zs_fil_lt (by omega) _ _ _ (by omega) (by omega)
theorem zs_rep_lt {V : zs_V} (h : zs_ok V) {g : Bool} {t : Int} {p : Nat} : zs_rep V g t p < zs_all V := by
  unfold zs_rep
  by_cases hc : zs_cap V - zs_w V 0 p < t
  · rw [if_pos hc]; exact h.all.1
  · rw [if_neg hc]; exact zs_best_lt h
/-- what a plan brings, with a threshold t -/
def zs_res (V : zs_V) (g : Bool) (t : Int) (p : Nat) : Int := zs_w V 1 p - zs_w V 3 (zs_rep V g t p)
theorem zs_res_b {V : zs_V} (h : zs_ok V) {g : Bool} {t : Int} {p : Nat} : -990 ≤ zs_res V g t p ∧ zs_res V g t p ≤ 990 := by
  have h1 := zs_w_b h (f := 1) (by omega) p
  have h2 := zs_w_b h (f := 3) (by omega) (zs_rep V g t p)
  unfold zs_res
  omega
/-- how many of the numbers below k -/
def zs_ct (c : Nat → Prop) [DecidablePred c] : Nat → Nat
  | 0 => 0
  | k + 1 => zs_ct c k + (if c k then 1 else 0)
theorem zs_ct_le (c : Nat → Prop) [DecidablePred c] : ∀ k, zs_ct c k ≤ k
  | 0 => Nat.le_refl _
  | k + 1 => by
    have := zs_ct_le c k
    simp only [zs_ct]
    by_cases h : c k
    · rw [if_pos h]; omega
    · rw [if_neg h]; omega
