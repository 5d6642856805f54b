/-! LINEAR PROGRAMS OVER THE RATIONALS: every basis can be changed into one that ends the search (no order of pivots: by induction on the variables) -/
def zk_s (g : Nat → Rat) : Nat → Rat
  | 0 => 0
  | n + 1 => zk_s g n + g n
theorem zk_s_cong {f g : Nat → Rat} : ∀ {n : Nat}, (∀ k, k < n → f k = g k) → zk_s f n = zk_s g n
  | 0, _ => rfl
  | n + 1, h => by
    have h1 := zk_s_cong (f := f) (g := g) (n := n) (fun k hk => h k (by omega))
    have h2 := h n (by omega)
    simp only [zk_s, h1, h2]
theorem zk_s_zero {f : Nat → Rat} : ∀ {n : Nat}, (∀ k, k < n → f k = 0) → zk_s f n = 0
  | 0, _ => rfl
  | n + 1, h => by
    have h1 := zk_s_zero (f := f) (n := n) (fun k hk => h k (by omega))
    have h2 := h n (by omega)
    simp only [zk_s, h1, h2]
    exact Rat.add_zero _
theorem zk_s_le {f : Nat → Rat} : ∀ {n : Nat}, (∀ k, k < n → f k ≤ 0) → zk_s f n ≤ 0
  | 0, _ => Rat.le_refl
  | n + 1, h => by
    have h1 := zk_s_le (f := f) (n := n) (fun k hk => h k (by omega))
    have h2 := h n (by omega)
    simp only [zk_s]
    grind
theorem zk_s_ge {f : Nat → Rat} : ∀ {n : Nat}, (∀ k, k < n → 0 ≤ f k) → 0 ≤ zk_s f n
  | 0, _ => Rat.le_refl
  | n + 1, h => by
    have h1 := zk_s_ge (f := f) (n := n) (fun k hk => h k (by omega))
    have h2 := h n (by omega)
    simp only [zk_s]
    grind
theorem zk_s_lt {f : Nat → Rat} : ∀ {n : Nat}, (∀ k, k < n → f k ≤ 0) → ∀ g, g < n → f g < 0 → zk_s f n < 0
  | 0, _, g, hg, _ => absurd hg (Nat.not_lt_zero _)
  | n + 1, h, g, hg, h3 => by
    simp only [zk_s]
    by_cases hn : g = n
    · subst hn
      have h1 := zk_s_le (f := f) (n := g) (fun k hk => h k (by omega))
      grind
    · have h1 := zk_s_lt (f := f) (n := n) (fun k hk => h k (by omega)) g (by omega) h3
      have h2 := h n (by omega)
      grind
theorem zk_s_one {f : Nat → Rat} : ∀ {n : Nat} (j : Nat), j < n → (∀ k, k < n → k ≠ j → f k = 0) → zk_s f n = f j
  | 0, j, hj, _ => absurd hj (Nat.not_lt_zero _)
  | n + 1, j, hj, h => by
    simp only [zk_s]
    by_cases hn : j = n
    · subst hn
      rw [zk_s_zero (fun k hk => h k (by omega) (by omega)), Rat.zero_add]
    · rw [zk_s_one j (by omega) (fun k hk hne => h k (by omega) hne), h n (by omega) (by omega), Rat.add_zero]
theorem zk_s_add (f g : Nat → Rat) : ∀ n, zk_s (fun k => f k + g k) n = zk_s f n + zk_s g n
  | 0 => (Rat.add_zero _).symm
  | n + 1 => by
    simp only [zk_s, zk_s_add f g n]
    grind
theorem zk_s_mul (c : Rat) (f : Nat → Rat) : ∀ n, zk_s (fun k => c * f k) n = c * zk_s f n
  | 0 => by simp only [zk_s]; grind
  | n + 1 => by
    simp only [zk_s, zk_s_mul c f n]
    grind
theorem zk_s_split (f : Nat → Rat) (m : Nat) : ∀ n, zk_s f (m + n) = zk_s f m + zk_s (fun k => f (m + k)) n
  | 0 => by simp only [zk_s, Nat.add_zero]; grind
  | n + 1 => by
    rw [show m + (n + 1) = (m + n) + 1 by omega]
    simp only [zk_s, zk_s_split f m n]
    grind
theorem zk_s_swap (f : Nat → Nat → Rat) (n : Nat) : ∀ m, zk_s (fun i => zk_s (fun j => f i j) n) m = zk_s (fun j => zk_s (fun i => f i j) m) n
  | 0 => by
    simp only [zk_s]
    exact (zk_s_zero (fun _ _ => rfl)).symm
  | m + 1 => by
    simp only [zk_s, zk_s_swap f n m]
    exact (zk_s_add _ _ n).symm
abbrev zk_V : Type := Nat → Rat
def zk_lin (Λ : zk_V → Prop) : Prop := Λ (fun _ => 0) ∧ (∀ x y, Λ x → Λ y → Λ (fun i => x i + y i)) ∧ ∀ (c : Rat) x, Λ x → Λ (fun i => c * x i)
/-- B tells which of the variables below N are basic; N is the constant, N + 1 the aim -/
def zk_bas (Λ : zk_V → Prop) (N : Nat) (B : Nat → Bool) : Prop := (∀ u : zk_V, ∃ x, Λ x ∧ x N = u N ∧ ∀ j, j < N → B j = false → x j = u j) ∧ ∀ x, Λ x → x N = 0 → (∀ j, j < N → B j = false → x j = 0) → ∀ i, i ≤ N + 1 → x i = 0
theorem zk_uni {Λ : zk_V → Prop} {N : Nat} {B : Nat → Bool} (hL : zk_lin Λ) (hB : zk_bas Λ N B) {x y : zk_V} (hx : Λ x) (hy : Λ y) (hN : x N = y N) (h : ∀ j, j < N → B j = false → x j = y j) : ∀ i, i ≤ N + 1 → x i = y i := by
  intro i hi
  have h1 := hB.2 (fun i => x i + (-1) * y i) (hL.2.1 x _ hx (hL.2.2 (-1) y hy)) (by show x N + (-1) * y N = 0; rw [hN]; grind) (fun j hj hb => by show x j + (-1) * y j = 0; rw [h j hj hb]; grind) i hi
  have h2 : x i + (-1) * y i = 0 := h1
  grind
theorem zk_piv {Λ : zk_V → Prop} {N : Nat} {B : Nat → Bool} (hL : zk_lin Λ) (hB : zk_bas Λ N B) {r s : Nat} (hr : r < N) (hs : s < N) (hBr : B r = true) (hBs : B s = false) {v : zk_V} (hv : Λ v) (hvs : v s = 1) (hvN : v N = 0) (hv0 : ∀ j, j < N → B j = false → j ≠ s → v j = 0) (hvr : v r ≠ 0) : zk_bas Λ N (fun k => if k = r then false else if k = s then true else B k) := by
  have hrs : r ≠ s := fun e => by rw [e, hBs] at hBr; cases hBr
  constructor
  · intro u
    obtain ⟨x0, h1, h2, h3⟩ := hB.1 (fun k => if k = s then 0 else u k)
    have hNs : N ≠ s := by omega
    simp only [if_neg hNs] at h2
    refine ⟨fun i => x0 i + (u r - x0 r) / v r * v i, hL.2.1 x0 _ h1 (hL.2.2 _ v hv), ?_, fun j hj hb => ?_⟩
    · show x0 N + (u r - x0 r) / v r * v N = u N
      rw [hvN, h2]
      grind
    · show x0 j + (u r - x0 r) / v r * v j = u j
      by_cases hjr : j = r
      · subst hjr
        rw [Rat.div_mul_cancel hvr]
        grind
      · simp only [if_neg hjr] at hb
        by_cases hjs : j = s
        · simp only [if_pos hjs] at hb
          cases hb
        · simp only [if_neg hjs] at hb
          have h4 := h3 j hj hb
          simp only [if_neg hjs] at h4
          rw [hv0 j hj hb hjs, h4]
          grind
  · intro x hx hN h0
    have hxr : x r = 0 := h0 r hr (by simp)
    have h5 : ∀ i, i ≤ N + 1 → x i = x s * v i := by
      refine zk_uni hL hB hx (hL.2.2 (x s) v hv) (by show x N = x s * v N; rw [hN, hvN]; grind) (fun j hj hb => ?_)
      show x j = x s * v j
      by_cases hjs : j = s
      · subst hjs
        rw [hvs]
        grind
      · have hjr : j ≠ r := fun e => by rw [e, hBr] at hb; cases hb
        rw [hv0 j hj hb hjs, h0 j hj (by simp only [if_neg hjr, if_neg hjs]; exact hb)]
        grind
    have h6 : x s * v r = 0 := by rw [← h5 r (by omega)]; exact hxr
    have h7 : x s = 0 := by
      rcases Rat.mul_eq_zero.mp h6 with h | h
      · exact h
      · exact absurd h hvr
    intro i hi
    rw [h5 i hi, h7]
    grind
theorem zk_sum_in {Λ : zk_V → Prop} (hL : zk_lin Λ) (w : Nat → zk_V) : ∀ n, (∀ j, j < n → Λ (w j)) → Λ (fun i => zk_s (fun j => w j i) n)
  | 0, _ => hL.1
  | n + 1, h => hL.2.1 _ _ (zk_sum_in hL w n (fun j hj => h j (by omega))) (h n (by omega))
/-- the basic solution and the directions -/
def zk_dic (Λ : zk_V → Prop) (N : Nat) (B : Nat → Bool) (p : zk_V) (v : Nat → zk_V) : Prop := Λ p ∧ p N = 1 ∧ (∀ k, k < N → B k = false → p k = 0) ∧ ∀ j, j < N → B j = false → Λ (v j) ∧ v j N = 0 ∧ v j j = 1 ∧ ∀ k, k < N → B k = false → k ≠ j → v j k = 0
theorem zk_dic_ex {Λ : zk_V → Prop} {N : Nat} {B : Nat → Bool} (hB : zk_bas Λ N B) : ∃ p v, zk_dic Λ N B p v := by
  obtain ⟨p, h1, h2, h3⟩ := hB.1 (fun k => if k = N then 1 else 0)
  have hv : ∀ j : Nat, ∃ x : zk_V, Λ x ∧ x N = (if N = j then 1 else 0) ∧ ∀ k, k < N → B k = false → x k = (if k = j then 1 else 0) := fun j => hB.1 (fun k => if k = j then 1 else 0)
  refine ⟨p, fun j => (hv j).choose, h1, by rw [h2, if_pos rfl], fun k hk hb => by rw [h3 k hk hb, if_neg (by omega)], fun j hj hb => ?_⟩
  obtain ⟨g1, g2, g3⟩ := (hv j).choose_spec
  exact ⟨g1, g2.trans (if_neg (by omega)), (g3 j hj hb).trans (if_pos rfl), fun k hk hbk hne => (g3 k hk hbk).trans (if_neg hne)⟩
theorem zk_exp {Λ : zk_V → Prop} {N : Nat} {B : Nat → Bool} {p : zk_V} {v : Nat → zk_V} (hL : zk_lin Λ) (hB : zk_bas Λ N B) (hd : zk_dic Λ N B p v) {x : zk_V} (hx : Λ x) : ∀ i, i ≤ N + 1 → x i = x N * p i + zk_s (fun j => if B j then 0 else x j * v j i) N := by
  obtain ⟨d1, d2, d3, d4⟩ := hd
  have hin : Λ (fun i => x N * p i + zk_s (fun j => if B j then 0 else x j * v j i) N) := by
    refine hL.2.1 (fun i => x N * p i) _ (hL.2.2 _ p d1) ?_
    refine zk_sum_in hL (fun j i => if B j then 0 else x j * v j i) N (fun j hj => ?_)
    by_cases hb : B j = true
    · simp only [hb, if_true]
      exact hL.1
    · have hb : B j = false := by simpa using hb
      simp only [hb]
      exact hL.2.2 (x j) (v j) (d4 j hj hb).1
  refine zk_uni hL hB hx hin ?_ (fun k hk hb => ?_)
  · show x N = x N * p N + zk_s (fun j => if B j then 0 else x j * v j N) N
    rw [d2, zk_s_zero (fun j hj => ?_)]
    · grind
    · by_cases hb : B j = true
      · simp only [hb, if_true]
      · have hb : B j = false := by simpa using hb
        simp only [hb]
        rw [(d4 j hj hb).2.1]
        grind
  · show x k = x N * p k + zk_s (fun j => if B j then 0 else x j * v j k) N
    rw [d3 k hk hb, zk_s_one k hk (fun j hj hne => ?_)]
    · simp only [hb]
      rw [(d4 k hk hb).2.2.1]
      grind
    · by_cases hbj : B j = true
      · simp only [hbj, if_true]
      · have hbj : B j = false := by simpa using hbj
        simp only [hbj]
        rw [(d4 j hj hbj).2.2.2 k hk hb (Ne.symm hne)]
        grind
/-- an end of the search: a best basis; a row that shows that there is no solution; a column that shows that the aim grows without bound -/
def zk_ter (N : Nat) (B : Nat → Bool) (p : zk_V) (v : Nat → zk_V) (F : List Nat) : Prop :=
  ((∀ i ∈ F, 0 ≤ p i) ∧ ∀ j ∈ F, B j = false → v j (N + 1) ≤ 0) ∨
  (∃ i ∈ F, B i = true ∧ p i < 0 ∧ ∀ j ∈ F, B j = false → v j i ≤ 0) ∨
  (∃ j ∈ F, B j = false ∧ 0 < v j (N + 1) ∧ ∀ i ∈ F, 0 ≤ v j i)
theorem zk_pn {a b : Rat} (ha : 0 ≤ a) (hb : b ≤ 0) : a * b ≤ 0 := by
  have h := Rat.mul_nonneg ha (b := -b) (by grind)
  rw [Rat.mul_neg] at h
  grind
theorem zk_np {a b : Rat} (ha : a < 0) (hb : 0 < b) : a * b < 0 := by
  have h := Rat.mul_pos (a := -a) (b := b) (by grind) hb
  rw [Rat.neg_mul] at h
  grind
/-- a vector that is not below 0 on F, is below 0 at g, is 0 at the other free places: a row with the signs of an end is negative there -/
theorem zk_neg {Λ : zk_V → Prop} {N : Nat} {B : Nat → Bool} {p : zk_V} {v : Nat → zk_V} (hL : zk_lin Λ) (hB : zk_bas Λ N B) (hd : zk_dic Λ N B p v) {F : List Nat} {g t : Nat} (ht : t ≤ N + 1) (hg : g < N) (hBg : B g = false) {w : zk_V} (hw : Λ w) (h1 : ∀ k ∈ F, 0 ≤ w k) (h2 : w g < 0) (h3 : ∀ k, k < N → B k = false → k ∉ F → k ≠ g → w k = 0) (h4 : ∀ k ∈ F, B k = false → v k t ≤ 0) (h5 : 0 < v g t) (hgF : g ∉ F) : w t < w N * p t := by
  have e := zk_exp hL hB hd hw t ht
  have hs : zk_s (fun j => if B j then 0 else w j * v j t) N < 0 := by
    refine zk_s_lt (fun k hk => ?_) g hg ?_
    · by_cases hb : B k = true
      · simp only [hb, if_true]
        exact Rat.le_refl
      · have hb : B k = false := by simpa using hb
        simp only [hb]
        by_cases hkg : k = g
        · subst hkg
          exact Rat.le_of_lt (zk_np h2 h5)
        · by_cases hkF : k ∈ F
          · exact zk_pn (h1 k hkF) (h4 k hkF hb)
          · show w k * v k t ≤ 0
            rw [h3 k hk hb hkF hkg]
            grind
    · simp only [hBg]
      exact zk_np h2 h5
  grind
theorem zk_two {Λ : zk_V → Prop} {N : Nat} (hL : zk_lin Λ) {F : List Nat} {g : Nat} (hF : ∀ k ∈ F, k < N) (hg : g < N) (hgF : g ∉ F) {B1 B2 : Nat → Bool} {p1 p2 : zk_V} {v1 v2 : Nat → zk_V} (hB1 : zk_bas Λ N B1) (hB2 : zk_bas Λ N B2) (hd1 : zk_dic Λ N B1 p1 v1) (hd2 : zk_dic Λ N B2 p2 v2) (hg1 : B1 g = false) (hg2 : B2 g = true) (hag : ∀ k, k < N → k ∉ F → k ≠ g → B1 k = B2 k) (t1 : zk_ter N B1 p1 v1 F) (t2 : zk_ter N B2 p2 v2 F) : zk_ter N B1 p1 v1 (g :: F) ∨ zk_ter N B2 p2 v2 (g :: F) := by
  have hne : ∀ j ∈ F, j ≠ g := fun j hj e => hgF (e ▸ hj)
  have hb2 : ∀ j, j ∈ g :: F → B2 j = false → j ∈ F := by
    intro j hj hb
    rcases List.mem_cons.mp hj with e | e
    · rw [e, hg2] at hb; cases hb
    · exact e
  rcases t1 with ⟨o1, o2⟩ | ⟨i1, i2, i3, i4, i5⟩ | ⟨j1, u2, u3, u4, u5⟩
  · by_cases hc : v1 g (N + 1) ≤ 0
    · refine Or.inl (Or.inl ⟨fun i hi => ?_, fun j hj hb => ?_⟩)
      · rcases List.mem_cons.mp hi with e | e
        · rw [e, hd1.2.2.1 g hg hg1]; exact Rat.le_refl
        · exact o1 i e
      · rcases List.mem_cons.mp hj with e | e
        · rw [e]; exact hc
        · exact o2 j e hb
    · have hc : 0 < v1 g (N + 1) := Rat.not_le.mp hc
      rcases t2 with ⟨q1, q2⟩ | ⟨i1, i2, i3, i4, i5⟩ | ⟨j1, u2, u3, u4, u5⟩
      · by_cases hp : 0 ≤ p2 g
        · refine Or.inr (Or.inl ⟨fun i hi => ?_, fun j hj hb => q2 j (hb2 j hj hb) hb⟩)
          rcases List.mem_cons.mp hi with e | e
          · rw [e]; exact hp
          · exact q1 i e
        · exfalso
          have hp : p2 g < 0 := Rat.not_le.mp hp
          have h1 := zk_neg hL hB1 hd1 (t := N + 1) (Nat.le_refl _) hg hg1 hd2.1 q1 hp (fun k hk hb hkF hkg => hd2.2.2.1 k hk (by rw [← hag k hk hkF hkg]; exact hb)) o2 hc hgF
          have h2 := zk_exp hL hB2 hd2 hd1.1 (N + 1) (Nat.le_refl _)
          have h3 : zk_s (fun j => if B2 j then 0 else p1 j * v2 j (N + 1)) N ≤ 0 := by
            refine zk_s_le (fun k hk => ?_)
            by_cases hb : B2 k = true
            · simp only [hb, if_true]
              exact Rat.le_refl
            · have hb : B2 k = false := by simpa using hb
              simp only [hb]
              have hkg : k ≠ g := fun e => by rw [e, hg2] at hb; cases hb
              by_cases hkF : k ∈ F
              · exact zk_pn (o1 k hkF) (q2 k hkF hb)
              · show p1 k * v2 k (N + 1) ≤ 0
                rw [hd1.2.2.1 k hk (by rw [hag k hk hkF hkg]; exact hb)]
                grind
          rw [hd2.2.1] at h1
          rw [hd1.2.1] at h2
          grind
      · exact Or.inr (Or.inr (Or.inl ⟨i1, List.mem_cons_of_mem _ i2, i3, i4, fun j hj hb => i5 j (hb2 j hj hb) hb⟩))
      · by_cases hp : 0 ≤ v2 j1 g
        · refine Or.inr (Or.inr (Or.inr ⟨j1, List.mem_cons_of_mem _ u2, u3, u4, fun i hi => ?_⟩))
          rcases List.mem_cons.mp hi with e | e
          · rw [e]; exact hp
          · exact u5 i e
        · exfalso
          have hp : v2 j1 g < 0 := Rat.not_le.mp hp
          have hj := hd2.2.2.2 j1 (hF j1 u2) u3
          have h1 := zk_neg hL hB1 hd1 (t := N + 1) (Nat.le_refl _) hg hg1 hj.1 u5 hp (fun k hk hb hkF hkg => hj.2.2.2 k hk (by rw [← hag k hk hkF hkg]; exact hb) (fun e => hkF (e ▸ u2))) o2 hc hgF
          rw [hj.2.1] at h1
          grind
  · by_cases hc : v1 g i1 ≤ 0
    · refine Or.inl (Or.inr (Or.inl ⟨i1, List.mem_cons_of_mem _ i2, i3, i4, fun j hj hb => ?_⟩))
      rcases List.mem_cons.mp hj with e | e
      · rw [e]; exact hc
      · exact i5 j e hb
    · have hc : 0 < v1 g i1 := Rat.not_le.mp hc
      have hiN : i1 ≤ N + 1 := by have := hF i1 i2; omega
      rcases t2 with ⟨q1, q2⟩ | ⟨k1, k2, k3, k4, k5⟩ | ⟨j1, u2, u3, u4, u5⟩
      · by_cases hp : 0 ≤ p2 g
        · refine Or.inr (Or.inl ⟨fun i hi => ?_, fun j hj hb => q2 j (hb2 j hj hb) hb⟩)
          rcases List.mem_cons.mp hi with e | e
          · rw [e]; exact hp
          · exact q1 i e
        · exfalso
          have hp : p2 g < 0 := Rat.not_le.mp hp
          have h1 := zk_neg hL hB1 hd1 (t := i1) hiN hg hg1 hd2.1 q1 hp (fun k hk hb hkF hkg => hd2.2.2.1 k hk (by rw [← hag k hk hkF hkg]; exact hb)) i5 hc hgF
          have h2 := q1 i1 i2
          rw [hd2.2.1] at h1
          grind
      · exact Or.inr (Or.inr (Or.inl ⟨k1, List.mem_cons_of_mem _ k2, k3, k4, fun j hj hb => k5 j (hb2 j hj hb) hb⟩))
      · by_cases hp : 0 ≤ v2 j1 g
        · refine Or.inr (Or.inr (Or.inr ⟨j1, List.mem_cons_of_mem _ u2, u3, u4, fun i hi => ?_⟩))
          rcases List.mem_cons.mp hi with e | e
          · rw [e]; exact hp
          · exact u5 i e
        · exfalso
          have hp : v2 j1 g < 0 := Rat.not_le.mp hp
          have hj := hd2.2.2.2 j1 (hF j1 u2) u3
          have h1 := zk_neg hL hB1 hd1 (t := i1) hiN hg hg1 hj.1 u5 hp (fun k hk hb hkF hkg => hj.2.2.2 k hk (by rw [← hag k hk hkF hkg]; exact hb) (fun e => hkF (e ▸ u2))) i5 hc hgF
          have h2 := u5 i1 i2
          rw [hj.2.1] at h1
          grind
  · refine Or.inl (Or.inr (Or.inr ⟨j1, List.mem_cons_of_mem _ u2, u3, u4, fun i hi => ?_⟩))
    rcases List.mem_cons.mp hi with e | e
    · rw [e, (hd1.2.2.2 j1 (hF j1 u2) u3).2.2.2 g hg hg1 (Ne.symm (hne j1 u2))]; exact Rat.le_refl
    · exact u5 i e
theorem zk_cnt {B : Nat → Bool} {N r s : Nat} (hr : r < N) (hs : s < N) (hBr : B r = true) (hBs : B s = false) : fb_ct (fun k => if k = r then false else if k = s then true else B k) N = fb_ct B N := by
  have hrs : r ≠ s := fun e => by rw [e, hBs] at hBr; cases hBr
  have h1 : fb_ct (fun k => if k = s then true else B k) N + 0 = fb_ct B N + 1 := by
    have h := fb_ct_upd B true hs
    rw [hBs] at h
    exact h
  have h2 : fb_ct (fun k => if k = r then false else if k = s then true else B k) N + 1 = fb_ct (fun k => if k = s then true else B k) N + 0 := by
    have h := fb_ct_upd (fun k => if k = s then true else B k) false hr
    have e : (if r = s then true else B r) = true := by rw [if_neg hrs, hBr]
    rw [if_pos e] at h
    exact h
  omega
theorem zk_lp {Λ : zk_V → Prop} {N : Nat} (hL : zk_lin Λ) : ∀ F : List Nat, (∀ k ∈ F, k < N) → F.Nodup → ∀ B, zk_bas Λ N B → ∃ B', zk_bas Λ N B' ∧ (∀ k, k < N → k ∉ F → B' k = B k) ∧ fb_ct B' N = fb_ct B N ∧ ∃ p v, zk_dic Λ N B' p v ∧ zk_ter N B' p v F
  | [], _, _, B, hB => by
    obtain ⟨p, v, hd⟩ := zk_dic_ex hB
    exact ⟨B, hB, fun _ _ _ => rfl, rfl, p, v, hd, Or.inl ⟨fun i hi => absurd hi List.not_mem_nil, fun j hj => absurd hj List.not_mem_nil⟩⟩
  | g :: F, hF, hnd, B, hB => by
    have hg : g < N := hF g List.mem_cons_self
    have hF' : ∀ k ∈ F, k < N := fun k hk => hF k (List.mem_cons_of_mem _ hk)
    have hgF : g ∉ F := (List.nodup_cons.mp hnd).1
    have ih := zk_lp hL F hF' (List.nodup_cons.mp hnd).2
    have hne : ∀ j ∈ F, j ≠ g := fun j hj e => hgF (e ▸ hj)
    obtain ⟨p, v, hd⟩ := zk_dic_ex hB
    have fin : ∀ {B' : Nat → Bool}, (∀ k, k < N → k ∉ F → k ≠ g → B' k = B k) → ∀ k, k < N → k ∉ g :: F → B' k = B k := fun h k hk hn => h k hk (fun e => hn (List.mem_cons_of_mem _ e)) (fun e => hn (e ▸ List.mem_cons_self))
    by_cases hBg : B g = true
    · by_cases h : ∃ s ∈ F, B s = false ∧ v s g ≠ 0
      · obtain ⟨s, hsF, hBs, hvs⟩ := h
        have hs := hF' s hsF
        have hj := hd.2.2.2 s hs hBs
        have hB1 := zk_piv hL hB hg hs hBg hBs hj.1 hj.2.2.1 hj.2.1 hj.2.2.2 hvs
        obtain ⟨C1, c1, c2, c3, p1, v1, c4, c5⟩ := ih _ hB1
        obtain ⟨C2, e1, e2, e3, p2, v2, e4, e5⟩ := ih B hB
        have a1 : C1 g = false := by rw [c2 g hg hgF]; simp
        have a2 : C2 g = true := by rw [e2 g hg hgF]; exact hBg
        have a3 : ∀ k, k < N → k ∉ F → k ≠ g → C1 k = B k := fun k hk hkF hkg => by
          rw [c2 k hk hkF]
          have hks : k ≠ s := fun e => hkF (e ▸ hsF)
          simp only [if_neg hkg, if_neg hks]
        rcases zk_two hL hF' hg hgF c1 e1 c4 e4 a1 a2 (fun k hk hkF hkg => by rw [a3 k hk hkF hkg, e2 k hk hkF]) c5 e5 with t | t
        · exact ⟨C1, c1, fin a3, by rw [c3, zk_cnt hg hs hBg hBs], p1, v1, c4, t⟩
        · exact ⟨C2, e1, fin (fun k hk hkF _ => e2 k hk hkF), e3, p2, v2, e4, t⟩
      · obtain ⟨C2, e1, e2, e3, p2, v2, e4, e5⟩ := ih B hB
        have a2 : C2 g = true := by rw [e2 g hg hgF]; exact hBg
        have hb2 : ∀ j, j ∈ g :: F → C2 j = false → j ∈ F := by
          intro j hj hb
          rcases List.mem_cons.mp hj with e | e
          · rw [e, a2] at hb; cases hb
          · exact e
        have hz : ∀ j ∈ F, C2 j = false → v2 j g = 0 := by
          intro j hjF hb
          have hj := e4.2.2.2 j (hF' j hjF) hb
          have e := zk_exp hL hB hd hj.1 g (by omega)
          rw [hj.2.1, zk_s_zero (fun k hk => ?_)] at e
          · grind
          · by_cases hbk : B k = true
            · simp only [hbk, if_true]
            · have hbk : B k = false := by simpa using hbk
              simp only [hbk]
              by_cases hkF : k ∈ F
              · have : v k g = 0 := Classical.byContradiction fun hn => h ⟨k, hkF, hbk, hn⟩
                rw [this]
                grind
              · rw [hj.2.2.2 k hk (by rw [e2 k hk hkF]; exact hbk) (fun e => hkF (e ▸ hjF))]
                grind
        refine ⟨C2, e1, fin (fun k hk hkF _ => e2 k hk hkF), e3, p2, v2, e4, ?_⟩
        rcases e5 with ⟨q1, q2⟩ | ⟨i1, i2, i3, i4, i5⟩ | ⟨j1, u2, u3, u4, u5⟩
        · by_cases hp : 0 ≤ p2 g
          · refine Or.inl ⟨fun i hi => ?_, fun j hj hb => q2 j (hb2 j hj hb) hb⟩
            rcases List.mem_cons.mp hi with e | e
            · rw [e]; exact hp
            · exact q1 i e
          · exact Or.inr (Or.inl ⟨g, List.mem_cons_self, a2, Rat.not_le.mp hp, fun j hj hb => by rw [hz j (hb2 j hj hb) hb]; exact Rat.le_refl⟩)
        · exact Or.inr (Or.inl ⟨i1, List.mem_cons_of_mem _ i2, i3, i4, fun j hj hb => i5 j (hb2 j hj hb) hb⟩)
        · refine Or.inr (Or.inr ⟨j1, List.mem_cons_of_mem _ u2, u3, u4, fun i hi => ?_⟩)
          rcases List.mem_cons.mp hi with e | e
          · rw [e, hz j1 u2 u3]; exact Rat.le_refl
          · exact u5 i e
    · have hBg : B g = false := by simpa using hBg
      have hvg := hd.2.2.2 g hg hBg
      by_cases h : ∃ r ∈ F, B r = true ∧ v g r ≠ 0
      · obtain ⟨r, hrF, hBr, hvr⟩ := h
        have hr := hF' r hrF
        have hB2 := zk_piv hL hB hr hg hBr hBg hvg.1 hvg.2.2.1 hvg.2.1 hvg.2.2.2 hvr
        obtain ⟨C1, c1, c2, c3, p1, v1, c4, c5⟩ := ih B hB
        obtain ⟨C2, e1, e2, e3, p2, v2, e4, e5⟩ := ih _ hB2
        have a1 : C1 g = false := by rw [c2 g hg hgF]; exact hBg
        have hgr : g ≠ r := fun e => hgF (e ▸ hrF)
        have a2 : C2 g = true := by rw [e2 g hg hgF]; simp [hgr]
        have a3 : ∀ k, k < N → k ∉ F → k ≠ g → C2 k = B k := fun k hk hkF hkg => by
          rw [e2 k hk hkF]
          have hkr : k ≠ r := fun e => hkF (e ▸ hrF)
          simp only [if_neg hkg, if_neg hkr]
        rcases zk_two hL hF' hg hgF c1 e1 c4 e4 a1 a2 (fun k hk hkF hkg => by rw [a3 k hk hkF hkg, c2 k hk hkF]) c5 e5 with t | t
        · exact ⟨C1, c1, fin (fun k hk hkF _ => c2 k hk hkF), c3, p1, v1, c4, t⟩
        · exact ⟨C2, e1, fin a3, by rw [e3, zk_cnt hr hg hBr hBg], p2, v2, e4, t⟩
      · obtain ⟨C1, c1, c2, c3, p1, v1, c4, c5⟩ := ih B hB
        have a1 : C1 g = false := by rw [c2 g hg hgF]; exact hBg
        have h1g := c4.2.2.2 g hg a1
        have hvF : ∀ i ∈ F, v g i = 0 := by
          intro i hi
          by_cases hb : B i = true
          · exact Classical.byContradiction fun hn => h ⟨i, hi, hb, hn⟩
          · exact hvg.2.2.2 i (hF' i hi) (by simpa using hb) (hne i hi)
        have heq : ∀ i, i ≤ N + 1 → v1 g i = v g i := by
          refine zk_uni hL c1 h1g.1 hvg.1 (by rw [h1g.2.1, hvg.2.1]) (fun k hk hb => ?_)
          by_cases hkg : k = g
          · rw [hkg, h1g.2.2.1, hvg.2.2.1]
          · rw [h1g.2.2.2 k hk hb hkg]
            by_cases hkF : k ∈ F
            · exact (hvF k hkF).symm
            · exact (hvg.2.2.2 k hk (by rw [← c2 k hk hkF]; exact hb) hkg).symm
        have hz : ∀ i ∈ F, v1 g i = 0 := fun i hi => by rw [heq i (by have := hF' i hi; omega)]; exact hvF i hi
        refine ⟨C1, c1, fin (fun k hk hkF _ => c2 k hk hkF), c3, p1, v1, c4, ?_⟩
        rcases c5 with ⟨q1, q2⟩ | ⟨i1, i2, i3, i4, i5⟩ | ⟨j1, u2, u3, u4, u5⟩
        · by_cases hc : v1 g (N + 1) ≤ 0
          · refine Or.inl ⟨fun i hi => ?_, fun j hj hb => ?_⟩
            · rcases List.mem_cons.mp hi with e | e
              · rw [e, c4.2.2.1 g hg a1]; exact Rat.le_refl
              · exact q1 i e
            · rcases List.mem_cons.mp hj with e | e
              · rw [e]; exact hc
              · exact q2 j e hb
          · refine Or.inr (Or.inr ⟨g, List.mem_cons_self, a1, Rat.not_le.mp hc, fun i hi => ?_⟩)
            rcases List.mem_cons.mp hi with e | e
            · rw [e, h1g.2.2.1]; decide
            · rw [hz i e]; exact Rat.le_refl
        · refine Or.inr (Or.inl ⟨i1, List.mem_cons_of_mem _ i2, i3, i4, fun j hj hb => ?_⟩)
          rcases List.mem_cons.mp hj with e | e
          · rw [e, hz i1 i2]; exact Rat.le_refl
          · exact i5 j e hb
        · refine Or.inr (Or.inr ⟨j1, List.mem_cons_of_mem _ u2, u3, u4, fun i hi => ?_⟩)
          rcases List.mem_cons.mp hi with e | e
          · rw [e, (c4.2.2.2 j1 (hF' j1 u2) u3).2.2.2 g hg a1 (Ne.symm (hne j1 u2))]; exact Rat.le_refl
          · exact u5 i e
