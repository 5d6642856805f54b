/-! THE WORDS OF THE PRINTED PREDICATES -/
abbrev zQ : Type := Option Value → zS → Prop
abbrev zY : Type := Nat → zS → Prop
/-- an oracle: what is known of calls, by the method's number -/
abbrev zO : Type := Nat → List Value → zQ → zY → zS → Prop
abbrev zPg : Type := Nat × (Nat → Nat)
abbrev zpg (g : zG) : zPg := (g.1.heap.size, g.2.2.2)
abbrev zqI (K : Int32 → zS → Prop) : zQ := fun v s => ∃ r, v = some (.int r) ∧ K r s
abbrev zqL (K : Int64 → zS → Prop) : zQ := fun v s => ∃ r, v = some (.long r) ∧ K r s
abbrev zqD (K : UInt64 → zS → Prop) : zQ := fun v s => ∃ r, v = some (.double r) ∧ K r s
abbrev zqF (K : UInt32 → zS → Prop) : zQ := fun v s => ∃ r, v = some (.float r) ∧ K r s
abbrev zqR (K : Option Nat → zS → Prop) : zQ := fun v s => ∃ r, v = some (va_rf r) ∧ K r s
abbrev zqV (K : zS → Prop) : zQ := fun v s => v = none ∧ K s
abbrev zgI (σ : zS) (r : Option Nat) (ci k : Nat) (K : Int32 → Prop) : Prop := ∃ a fs v, r = some a ∧ σ.1 a = some (.inr (ci, fs)) ∧ fs[k]? = some (.int v) ∧ K v
abbrev zgL (σ : zS) (r : Option Nat) (ci k : Nat) (K : Int64 → Prop) : Prop := ∃ a fs v, r = some a ∧ σ.1 a = some (.inr (ci, fs)) ∧ fs[k]? = some (.long v) ∧ K v
abbrev zgR (σ : zS) (r : Option Nat) (ci k : Nat) (K : Option Nat → Prop) : Prop := ∃ a fs v, r = some a ∧ σ.1 a = some (.inr (ci, fs)) ∧ fs[k]? = some (va_rf v) ∧ K v
abbrev zgIM (σ : zS) (r : Option Nat) (cs : List Nat) (k : Nat) (K : Int32 → Prop) : Prop := ∃ a ci fs v, r = some a ∧ ci ∈ cs ∧ σ.1 a = some (.inr (ci, fs)) ∧ fs[k]? = some (.int v) ∧ K v
abbrev zgRM (σ : zS) (r : Option Nat) (cs : List Nat) (k : Nat) (K : Option Nat → Prop) : Prop := ∃ a ci fs v, r = some a ∧ ci ∈ cs ∧ σ.1 a = some (.inr (ci, fs)) ∧ fs[k]? = some (va_rf v) ∧ K v
abbrev zput (σ : zS) (z0 : Nat) (r : Option Nat) (ci k : Nat) (v : Value) (K : zS → Prop) : Prop := ∃ a fs, r = some a ∧ z0 ≤ a ∧ σ.1 a = some (.inr (ci, fs)) ∧ k < fs.length ∧ ∀ s, s = (zup σ.1 a (.inr (ci, fs.set k v)), σ.2) → K s
abbrev zputM (σ : zS) (z0 : Nat) (r : Option Nat) (cs : List Nat) (k : Nat) (v : Value) (K : zS → Prop) : Prop := ∃ a ci fs, r = some a ∧ ci ∈ cs ∧ z0 ≤ a ∧ σ.1 a = some (.inr (ci, fs)) ∧ k < fs.length ∧ ∀ s, s = (zup σ.1 a (.inr (ci, fs.set k v)), σ.2) → K s
abbrev znew (σ : zS) (ci : Nat) (fs : List Value) (M : Nat) (K : zS → Prop) : Prop := 1 ≤ σ.2.2.1 ∧ M ≤ σ.2.2.2 ∧ (σ.1 σ.2.1 = none → ∀ s, s = (zup σ.1 σ.2.1 (.inr (ci, fs)), σ.2.1 + 1, σ.2.2.1 - 1, σ.2.2.2 - M) → K s)
abbrev znewA (σ : zS) (t : Nat) (n : Int32) (e : (Nat → Int32) ⊕ (Nat → Int64) ⊕ (Nat → UInt32) ⊕ (Nat → UInt64) ⊕ (Nat → Option Nat)) (K : zS → Prop) : Prop := ¬ n < 0 ∧ n.toNatClampNeg ≤ 60000000 ∧ 1 ≤ σ.2.2.1 ∧ n.toNatClampNeg ≤ σ.2.2.2 ∧ (σ.1 σ.2.1 = none → ∀ s, s = (zup σ.1 σ.2.1 (.inl (t, n.toNatClampNeg, e)), σ.2.1 + 1, σ.2.2.1 - 1, σ.2.2.2 - n.toNatClampNeg) → K s)
/-- arrays of ints, bytes, booleans (t: 0, 2, 3), of longs, of references (t) -/
abbrev zaI (σ : zS) (t : Nat) (r : Option Nat) (i : Int32) (K : Int32 → Prop) : Prop := ∃ a n f, r = some a ∧ σ.1 a = some (.inl (t, n, .inl f)) ∧ vp_in i n ∧ K (f i.toNatClampNeg)
abbrev zaL (σ : zS) (r : Option Nat) (i : Int32) (K : Int64 → Prop) : Prop := ∃ a n f, r = some a ∧ σ.1 a = some (.inl (1, n, .inr (.inl f))) ∧ vp_in i n ∧ K (f i.toNatClampNeg)
abbrev zaR (σ : zS) (t : Nat) (r : Option Nat) (i : Int32) (K : Option Nat → Prop) : Prop := ∃ a n f, r = some a ∧ σ.1 a = some (.inl (t, n, .inr (.inr (.inr (.inr f))))) ∧ vp_in i n ∧ K (f i.toNatClampNeg)
abbrev zln (σ : zS) (t : Nat) (r : Option Nat) (K : Int32 → Prop) : Prop := ∃ a x, r = some a ∧ σ.1 a = some (.inl (t, x)) ∧ K (nI x.1)
abbrev zsI (σ : zS) (z0 t : Nat) (r : Option Nat) (i x : Int32) (K : zS → Prop) : Prop := ∃ a n f, r = some a ∧ z0 ≤ a ∧ σ.1 a = some (.inl (t, n, .inl f)) ∧ vp_in i n ∧ ∀ s, s = (zup σ.1 a (.inl (t, n, .inl (va_up f i.toNatClampNeg x))), σ.2) → K s
abbrev zsL (σ : zS) (z0 : Nat) (r : Option Nat) (i : Int32) (x : Int64) (K : zS → Prop) : Prop := ∃ a n f, r = some a ∧ z0 ≤ a ∧ σ.1 a = some (.inl (1, n, .inr (.inl f))) ∧ vp_in i n ∧ ∀ s, s = (zup σ.1 a (.inl (1, n, .inr (.inl (va_up f i.toNatClampNeg x)))), σ.2) → K s
/-- an object of a class of cs, or null, into an array of kind t -/
abbrev zsR (σ : zS) (z0 t : Nat) (cs : List Nat) (r : Option Nat) (i : Int32) (v : Option Nat) (K : zS → Prop) : Prop := ∃ a n f, r = some a ∧ z0 ≤ a ∧ σ.1 a = some (.inl (t, n, .inr (.inr (.inr (.inr f))))) ∧ vp_in i n ∧ (v = none ∨ ∃ b ci fs, v = some b ∧ ci ∈ cs ∧ σ.1 b = some (.inr (ci, fs))) ∧ ∀ s, s = (zup σ.1 a (.inl (t, n, .inr (.inr (.inr (.inr (va_up f i.toNatClampNeg v)))))), σ.2) → K s
/-- the receiver: an object of the class ci -/
abbrev zrc (σ : zS) (r : Option Nat) (ci : Nat) (K : Nat → Prop) : Prop := ∃ a fs, r = some a ∧ σ.1 a = some (.inr (ci, fs)) ∧ K a
abbrev zrcM (σ : zS) (r : Option Nat) (cs : List Nat) (K : Nat → Nat → Prop) : Prop := ∃ a ci fs, r = some a ∧ ci ∈ cs ∧ σ.1 a = some (.inr (ci, fs)) ∧ K a ci
abbrev zbool (x : Int32) : Prop := x = 0 ∨ x = 1
/-- a point where roads join -/
abbrev zJ {τ : Sort _} (f : τ) (b : τ → Prop) : Prop := b f
theorem zJ_w {τ : Sort _} {f : τ} {b : τ → Prop} {G : Prop} (P : τ → Prop) (hw : zJ f b) (h1 : P f) (h2 : ∀ j, P j → b j → G) : G := h2 f h1 hw
/-- a loop, by turns -/
def zIt {τ : Type} (bot : τ) (F : τ → τ) : Nat → τ
  | 0 => bot
  | n + 1 => F (zIt bot F n)
theorem zIt_w {τ : Type} {bot : τ} {F : τ → τ} (P : τ → Prop) (h0 : P bot) (hs : ∀ j, P j → P (F j)) : ∀ n, P (zIt bot F n)
  | 0 => h0
  | n + 1 => hs _ (zIt_w P h0 hs n)
theorem zl1 {A0 : Type} {F : (A0 → Prop) → A0 → Prop} (I : A0 → Prop) (μ : A0 → Nat) (hs : ∀ (rec : A0 → Prop) (x0 : A0), I x0 → (∀ (y0 : A0), I y0 → μ y0 < μ x0 → rec y0) → F rec x0) (x0 : A0) (h : I x0) : ∃ n, zIt (fun _ => False) F n x0 := by
  have key : ∀ (n : Nat) (x0 : A0), I x0 → μ x0 < n → zIt (fun _ => False) F n x0 := by
    intro n
    induction n with
    | zero => intro x0 _ h; exact absurd h (Nat.not_lt_zero _)
    | succ n ih => intro x0 hx hm; exact hs _ x0 hx (fun y0 h1 h2 => ih y0 h1 (by omega))
  exact ⟨_, key _ x0 h (Nat.lt_succ_self _)⟩
theorem zl2 {A0 A1 : Type} {F : (A0 → A1 → Prop) → A0 → A1 → Prop} (I : A0 → A1 → Prop) (μ : A0 → A1 → Nat) (hs : ∀ (rec : A0 → A1 → Prop) (x0 : A0) (x1 : A1), I x0 x1 → (∀ (y0 : A0) (y1 : A1), I y0 y1 → μ y0 y1 < μ x0 x1 → rec y0 y1) → F rec x0 x1) (x0 : A0) (x1 : A1) (h : I x0 x1) : ∃ n, zIt (fun _ _ => False) F n x0 x1 := by
  have key : ∀ (n : Nat) (x0 : A0) (x1 : A1), I x0 x1 → μ x0 x1 < n → zIt (fun _ _ => False) F n x0 x1 := by
    intro n
    induction n with
    | zero => intro x0 x1 _ h; exact absurd h (Nat.not_lt_zero _)
    | succ n ih => intro x0 x1 hx hm; exact hs _ x0 x1 hx (fun y0 y1 h1 h2 => ih y0 y1 h1 (by omega))
  exact ⟨_, key _ x0 x1 h (Nat.lt_succ_self _)⟩
theorem zl3 {A0 A1 A2 : Type} {F : (A0 → A1 → A2 → Prop) → A0 → A1 → A2 → Prop} (I : A0 → A1 → A2 → Prop) (μ : A0 → A1 → A2 → Nat) (hs : ∀ (rec : A0 → A1 → A2 → Prop) (x0 : A0) (x1 : A1) (x2 : A2), I x0 x1 x2 → (∀ (y0 : A0) (y1 : A1) (y2 : A2), I y0 y1 y2 → μ y0 y1 y2 < μ x0 x1 x2 → rec y0 y1 y2) → F rec x0 x1 x2) (x0 : A0) (x1 : A1) (x2 : A2) (h : I x0 x1 x2) : ∃ n, zIt (fun _ _ _ => False) F n x0 x1 x2 := by
  have key : ∀ (n : Nat) (x0 : A0) (x1 : A1) (x2 : A2), I x0 x1 x2 → μ x0 x1 x2 < n → zIt (fun _ _ _ => False) F n x0 x1 x2 := by
    intro n
    induction n with
    | zero => intro x0 x1 x2 _ h; exact absurd h (Nat.not_lt_zero _)
    | succ n ih => intro x0 x1 x2 hx hm; exact hs _ x0 x1 x2 hx (fun y0 y1 y2 h1 h2 => ih y0 y1 y2 h1 (by omega))
  exact ⟨_, key _ x0 x1 x2 h (Nat.lt_succ_self _)⟩
theorem zl4 {A0 A1 A2 A3 : Type} {F : (A0 → A1 → A2 → A3 → Prop) → A0 → A1 → A2 → A3 → Prop} (I : A0 → A1 → A2 → A3 → Prop) (μ : A0 → A1 → A2 → A3 → Nat) (hs : ∀ (rec : A0 → A1 → A2 → A3 → Prop) (x0 : A0) (x1 : A1) (x2 : A2) (x3 : A3), I x0 x1 x2 x3 → (∀ (y0 : A0) (y1 : A1) (y2 : A2) (y3 : A3), I y0 y1 y2 y3 → μ y0 y1 y2 y3 < μ x0 x1 x2 x3 → rec y0 y1 y2 y3) → F rec x0 x1 x2 x3) (x0 : A0) (x1 : A1) (x2 : A2) (x3 : A3) (h : I x0 x1 x2 x3) : ∃ n, zIt (fun _ _ _ _ => False) F n x0 x1 x2 x3 := by
  have key : ∀ (n : Nat) (x0 : A0) (x1 : A1) (x2 : A2) (x3 : A3), I x0 x1 x2 x3 → μ x0 x1 x2 x3 < n → zIt (fun _ _ _ _ => False) F n x0 x1 x2 x3 := by
    intro n
    induction n with
    | zero => intro x0 x1 x2 x3 _ h; exact absurd h (Nat.not_lt_zero _)
    | succ n ih => intro x0 x1 x2 x3 hx hm; exact hs _ x0 x1 x2 x3 hx (fun y0 y1 y2 y3 h1 h2 => ih y0 y1 y2 y3 h1 (by omega))
  exact ⟨_, key _ x0 x1 x2 x3 h (Nat.lt_succ_self _)⟩
theorem zl5 {A0 A1 A2 A3 A4 : Type} {F : (A0 → A1 → A2 → A3 → A4 → Prop) → A0 → A1 → A2 → A3 → A4 → Prop} (I : A0 → A1 → A2 → A3 → A4 → Prop) (μ : A0 → A1 → A2 → A3 → A4 → Nat) (hs : ∀ (rec : A0 → A1 → A2 → A3 → A4 → Prop) (x0 : A0) (x1 : A1) (x2 : A2) (x3 : A3) (x4 : A4), I x0 x1 x2 x3 x4 → (∀ (y0 : A0) (y1 : A1) (y2 : A2) (y3 : A3) (y4 : A4), I y0 y1 y2 y3 y4 → μ y0 y1 y2 y3 y4 < μ x0 x1 x2 x3 x4 → rec y0 y1 y2 y3 y4) → F rec x0 x1 x2 x3 x4) (x0 : A0) (x1 : A1) (x2 : A2) (x3 : A3) (x4 : A4) (h : I x0 x1 x2 x3 x4) : ∃ n, zIt (fun _ _ _ _ _ => False) F n x0 x1 x2 x3 x4 := by
  have key : ∀ (n : Nat) (x0 : A0) (x1 : A1) (x2 : A2) (x3 : A3) (x4 : A4), I x0 x1 x2 x3 x4 → μ x0 x1 x2 x3 x4 < n → zIt (fun _ _ _ _ _ => False) F n x0 x1 x2 x3 x4 := by
    intro n
    induction n with
    | zero => intro x0 x1 x2 x3 x4 _ h; exact absurd h (Nat.not_lt_zero _)
    | succ n ih => intro x0 x1 x2 x3 x4 hx hm; exact hs _ x0 x1 x2 x3 x4 hx (fun y0 y1 y2 y3 y4 h1 h2 => ih y0 y1 y2 y3 y4 h1 (by omega))
  exact ⟨_, key _ x0 x1 x2 x3 x4 h (Nat.lt_succ_self _)⟩
theorem zl6 {A0 A1 A2 A3 A4 A5 : Type} {F : (A0 → A1 → A2 → A3 → A4 → A5 → Prop) → A0 → A1 → A2 → A3 → A4 → A5 → Prop} (I : A0 → A1 → A2 → A3 → A4 → A5 → Prop) (μ : A0 → A1 → A2 → A3 → A4 → A5 → Nat) (hs : ∀ (rec : A0 → A1 → A2 → A3 → A4 → A5 → Prop) (x0 : A0) (x1 : A1) (x2 : A2) (x3 : A3) (x4 : A4) (x5 : A5), I x0 x1 x2 x3 x4 x5 → (∀ (y0 : A0) (y1 : A1) (y2 : A2) (y3 : A3) (y4 : A4) (y5 : A5), I y0 y1 y2 y3 y4 y5 → μ y0 y1 y2 y3 y4 y5 < μ x0 x1 x2 x3 x4 x5 → rec y0 y1 y2 y3 y4 y5) → F rec x0 x1 x2 x3 x4 x5) (x0 : A0) (x1 : A1) (x2 : A2) (x3 : A3) (x4 : A4) (x5 : A5) (h : I x0 x1 x2 x3 x4 x5) : ∃ n, zIt (fun _ _ _ _ _ _ => False) F n x0 x1 x2 x3 x4 x5 := by
  have key : ∀ (n : Nat) (x0 : A0) (x1 : A1) (x2 : A2) (x3 : A3) (x4 : A4) (x5 : A5), I x0 x1 x2 x3 x4 x5 → μ x0 x1 x2 x3 x4 x5 < n → zIt (fun _ _ _ _ _ _ => False) F n x0 x1 x2 x3 x4 x5 := by
    intro n
    induction n with
    | zero => intro x0 x1 x2 x3 x4 x5 _ h; exact absurd h (Nat.not_lt_zero _)
    | succ n ih => intro x0 x1 x2 x3 x4 x5 hx hm; exact hs _ x0 x1 x2 x3 x4 x5 hx (fun y0 y1 y2 y3 y4 y5 h1 h2 => ih y0 y1 y2 y3 y4 y5 h1 (by omega))
  exact ⟨_, key _ x0 x1 x2 x3 x4 x5 h (Nat.lt_succ_self _)⟩
theorem zl7 {A0 A1 A2 A3 A4 A5 A6 : Type} {F : (A0 → A1 → A2 → A3 → A4 → A5 → A6 → Prop) → A0 → A1 → A2 → A3 → A4 → A5 → A6 → Prop} (I : A0 → A1 → A2 → A3 → A4 → A5 → A6 → Prop) (μ : A0 → A1 → A2 → A3 → A4 → A5 → A6 → Nat) (hs : ∀ (rec : A0 → A1 → A2 → A3 → A4 → A5 → A6 → Prop) (x0 : A0) (x1 : A1) (x2 : A2) (x3 : A3) (x4 : A4) (x5 : A5) (x6 : A6), I x0 x1 x2 x3 x4 x5 x6 → (∀ (y0 : A0) (y1 : A1) (y2 : A2) (y3 : A3) (y4 : A4) (y5 : A5) (y6 : A6), I y0 y1 y2 y3 y4 y5 y6 → μ y0 y1 y2 y3 y4 y5 y6 < μ x0 x1 x2 x3 x4 x5 x6 → rec y0 y1 y2 y3 y4 y5 y6) → F rec x0 x1 x2 x3 x4 x5 x6) (x0 : A0) (x1 : A1) (x2 : A2) (x3 : A3) (x4 : A4) (x5 : A5) (x6 : A6) (h : I x0 x1 x2 x3 x4 x5 x6) : ∃ n, zIt (fun _ _ _ _ _ _ _ => False) F n x0 x1 x2 x3 x4 x5 x6 := by
  have key : ∀ (n : Nat) (x0 : A0) (x1 : A1) (x2 : A2) (x3 : A3) (x4 : A4) (x5 : A5) (x6 : A6), I x0 x1 x2 x3 x4 x5 x6 → μ x0 x1 x2 x3 x4 x5 x6 < n → zIt (fun _ _ _ _ _ _ _ => False) F n x0 x1 x2 x3 x4 x5 x6 := by
    intro n
    induction n with
    | zero => intro x0 x1 x2 x3 x4 x5 x6 _ h; exact absurd h (Nat.not_lt_zero _)
    | succ n ih => intro x0 x1 x2 x3 x4 x5 x6 hx hm; exact hs _ x0 x1 x2 x3 x4 x5 x6 hx (fun y0 y1 y2 y3 y4 y5 y6 h1 h2 => ih y0 y1 y2 y3 y4 y5 y6 h1 (by omega))
  exact ⟨_, key _ x0 x1 x2 x3 x4 x5 x6 h (Nat.lt_succ_self _)⟩
theorem zl8 {A0 A1 A2 A3 A4 A5 A6 A7 : Type} {F : (A0 → A1 → A2 → A3 → A4 → A5 → A6 → A7 → Prop) → A0 → A1 → A2 → A3 → A4 → A5 → A6 → A7 → Prop} (I : A0 → A1 → A2 → A3 → A4 → A5 → A6 → A7 → Prop) (μ : A0 → A1 → A2 → A3 → A4 → A5 → A6 → A7 → Nat) (hs : ∀ (rec : A0 → A1 → A2 → A3 → A4 → A5 → A6 → A7 → Prop) (x0 : A0) (x1 : A1) (x2 : A2) (x3 : A3) (x4 : A4) (x5 : A5) (x6 : A6) (x7 : A7), I x0 x1 x2 x3 x4 x5 x6 x7 → (∀ (y0 : A0) (y1 : A1) (y2 : A2) (y3 : A3) (y4 : A4) (y5 : A5) (y6 : A6) (y7 : A7), I y0 y1 y2 y3 y4 y5 y6 y7 → μ y0 y1 y2 y3 y4 y5 y6 y7 < μ x0 x1 x2 x3 x4 x5 x6 x7 → rec y0 y1 y2 y3 y4 y5 y6 y7) → F rec x0 x1 x2 x3 x4 x5 x6 x7) (x0 : A0) (x1 : A1) (x2 : A2) (x3 : A3) (x4 : A4) (x5 : A5) (x6 : A6) (x7 : A7) (h : I x0 x1 x2 x3 x4 x5 x6 x7) : ∃ n, zIt (fun _ _ _ _ _ _ _ _ => False) F n x0 x1 x2 x3 x4 x5 x6 x7 := by
  have key : ∀ (n : Nat) (x0 : A0) (x1 : A1) (x2 : A2) (x3 : A3) (x4 : A4) (x5 : A5) (x6 : A6) (x7 : A7), I x0 x1 x2 x3 x4 x5 x6 x7 → μ x0 x1 x2 x3 x4 x5 x6 x7 < n → zIt (fun _ _ _ _ _ _ _ _ => False) F n x0 x1 x2 x3 x4 x5 x6 x7 := by
    intro n
    induction n with
    | zero => intro x0 x1 x2 x3 x4 x5 x6 x7 _ h; exact absurd h (Nat.not_lt_zero _)
    | succ n ih => intro x0 x1 x2 x3 x4 x5 x6 x7 hx hm; exact hs _ x0 x1 x2 x3 x4 x5 x6 x7 hx (fun y0 y1 y2 y3 y4 y5 y6 y7 h1 h2 => ih y0 y1 y2 y3 y4 y5 y6 y7 h1 (by omega))
  exact ⟨_, key _ x0 x1 x2 x3 x4 x5 x6 x7 h (Nat.lt_succ_self _)⟩
theorem zl9 {A0 A1 A2 A3 A4 A5 A6 A7 A8 : Type} {F : (A0 → A1 → A2 → A3 → A4 → A5 → A6 → A7 → A8 → Prop) → A0 → A1 → A2 → A3 → A4 → A5 → A6 → A7 → A8 → Prop} (I : A0 → A1 → A2 → A3 → A4 → A5 → A6 → A7 → A8 → Prop) (μ : A0 → A1 → A2 → A3 → A4 → A5 → A6 → A7 → A8 → Nat) (hs : ∀ (rec : A0 → A1 → A2 → A3 → A4 → A5 → A6 → A7 → A8 → Prop) (x0 : A0) (x1 : A1) (x2 : A2) (x3 : A3) (x4 : A4) (x5 : A5) (x6 : A6) (x7 : A7) (x8 : A8), I x0 x1 x2 x3 x4 x5 x6 x7 x8 → (∀ (y0 : A0) (y1 : A1) (y2 : A2) (y3 : A3) (y4 : A4) (y5 : A5) (y6 : A6) (y7 : A7) (y8 : A8), I y0 y1 y2 y3 y4 y5 y6 y7 y8 → μ y0 y1 y2 y3 y4 y5 y6 y7 y8 < μ x0 x1 x2 x3 x4 x5 x6 x7 x8 → rec y0 y1 y2 y3 y4 y5 y6 y7 y8) → F rec x0 x1 x2 x3 x4 x5 x6 x7 x8) (x0 : A0) (x1 : A1) (x2 : A2) (x3 : A3) (x4 : A4) (x5 : A5) (x6 : A6) (x7 : A7) (x8 : A8) (h : I x0 x1 x2 x3 x4 x5 x6 x7 x8) : ∃ n, zIt (fun _ _ _ _ _ _ _ _ _ => False) F n x0 x1 x2 x3 x4 x5 x6 x7 x8 := by
  have key : ∀ (n : Nat) (x0 : A0) (x1 : A1) (x2 : A2) (x3 : A3) (x4 : A4) (x5 : A5) (x6 : A6) (x7 : A7) (x8 : A8), I x0 x1 x2 x3 x4 x5 x6 x7 x8 → μ x0 x1 x2 x3 x4 x5 x6 x7 x8 < n → zIt (fun _ _ _ _ _ _ _ _ _ => False) F n x0 x1 x2 x3 x4 x5 x6 x7 x8 := by
    intro n
    induction n with
    | zero => intro x0 x1 x2 x3 x4 x5 x6 x7 x8 _ h; exact absurd h (Nat.not_lt_zero _)
    | succ n ih => intro x0 x1 x2 x3 x4 x5 x6 x7 x8 hx hm; exact hs _ x0 x1 x2 x3 x4 x5 x6 x7 x8 hx (fun y0 y1 y2 y3 y4 y5 y6 y7 y8 h1 h2 => ih y0 y1 y2 y3 y4 y5 y6 y7 y8 h1 (by omega))
  exact ⟨_, key _ x0 x1 x2 x3 x4 x5 x6 x7 x8 h (Nat.lt_succ_self _)⟩
theorem zl10 {A0 A1 A2 A3 A4 A5 A6 A7 A8 A9 : Type} {F : (A0 → A1 → A2 → A3 → A4 → A5 → A6 → A7 → A8 → A9 → Prop) → A0 → A1 → A2 → A3 → A4 → A5 → A6 → A7 → A8 → A9 → Prop} (I : A0 → A1 → A2 → A3 → A4 → A5 → A6 → A7 → A8 → A9 → Prop) (μ : A0 → A1 → A2 → A3 → A4 → A5 → A6 → A7 → A8 → A9 → Nat) (hs : ∀ (rec : A0 → A1 → A2 → A3 → A4 → A5 → A6 → A7 → A8 → A9 → Prop) (x0 : A0) (x1 : A1) (x2 : A2) (x3 : A3) (x4 : A4) (x5 : A5) (x6 : A6) (x7 : A7) (x8 : A8) (x9 : A9), I x0 x1 x2 x3 x4 x5 x6 x7 x8 x9 → (∀ (y0 : A0) (y1 : A1) (y2 : A2) (y3 : A3) (y4 : A4) (y5 : A5) (y6 : A6) (y7 : A7) (y8 : A8) (y9 : A9), I y0 y1 y2 y3 y4 y5 y6 y7 y8 y9 → μ y0 y1 y2 y3 y4 y5 y6 y7 y8 y9 < μ x0 x1 x2 x3 x4 x5 x6 x7 x8 x9 → rec y0 y1 y2 y3 y4 y5 y6 y7 y8 y9) → F rec x0 x1 x2 x3 x4 x5 x6 x7 x8 x9) (x0 : A0) (x1 : A1) (x2 : A2) (x3 : A3) (x4 : A4) (x5 : A5) (x6 : A6) (x7 : A7) (x8 : A8) (x9 : A9) (h : I x0 x1 x2 x3 x4 x5 x6 x7 x8 x9) : ∃ n, zIt (fun _ _ _ _ _ _ _ _ _ _ => False) F n x0 x1 x2 x3 x4 x5 x6 x7 x8 x9 := by
  have key : ∀ (n : Nat) (x0 : A0) (x1 : A1) (x2 : A2) (x3 : A3) (x4 : A4) (x5 : A5) (x6 : A6) (x7 : A7) (x8 : A8) (x9 : A9), I x0 x1 x2 x3 x4 x5 x6 x7 x8 x9 → μ x0 x1 x2 x3 x4 x5 x6 x7 x8 x9 < n → zIt (fun _ _ _ _ _ _ _ _ _ _ => False) F n x0 x1 x2 x3 x4 x5 x6 x7 x8 x9 := by
    intro n
    induction n with
    | zero => intro x0 x1 x2 x3 x4 x5 x6 x7 x8 x9 _ h; exact absurd h (Nat.not_lt_zero _)
    | succ n ih => intro x0 x1 x2 x3 x4 x5 x6 x7 x8 x9 hx hm; exact hs _ x0 x1 x2 x3 x4 x5 x6 x7 x8 x9 hx (fun y0 y1 y2 y3 y4 y5 y6 y7 y8 y9 h1 h2 => ih y0 y1 y2 y3 y4 y5 y6 y7 y8 y9 h1 (by omega))
  exact ⟨_, key _ x0 x1 x2 x3 x4 x5 x6 x7 x8 x9 h (Nat.lt_succ_self _)⟩
theorem zl11 {A0 A1 A2 A3 A4 A5 A6 A7 A8 A9 A10 : Type} {F : (A0 → A1 → A2 → A3 → A4 → A5 → A6 → A7 → A8 → A9 → A10 → Prop) → A0 → A1 → A2 → A3 → A4 → A5 → A6 → A7 → A8 → A9 → A10 → Prop} (I : A0 → A1 → A2 → A3 → A4 → A5 → A6 → A7 → A8 → A9 → A10 → Prop) (μ : A0 → A1 → A2 → A3 → A4 → A5 → A6 → A7 → A8 → A9 → A10 → Nat) (hs : ∀ (rec : A0 → A1 → A2 → A3 → A4 → A5 → A6 → A7 → A8 → A9 → A10 → Prop) (x0 : A0) (x1 : A1) (x2 : A2) (x3 : A3) (x4 : A4) (x5 : A5) (x6 : A6) (x7 : A7) (x8 : A8) (x9 : A9) (x10 : A10), I x0 x1 x2 x3 x4 x5 x6 x7 x8 x9 x10 → (∀ (y0 : A0) (y1 : A1) (y2 : A2) (y3 : A3) (y4 : A4) (y5 : A5) (y6 : A6) (y7 : A7) (y8 : A8) (y9 : A9) (y10 : A10), I y0 y1 y2 y3 y4 y5 y6 y7 y8 y9 y10 → μ y0 y1 y2 y3 y4 y5 y6 y7 y8 y9 y10 < μ x0 x1 x2 x3 x4 x5 x6 x7 x8 x9 x10 → rec y0 y1 y2 y3 y4 y5 y6 y7 y8 y9 y10) → F rec x0 x1 x2 x3 x4 x5 x6 x7 x8 x9 x10) (x0 : A0) (x1 : A1) (x2 : A2) (x3 : A3) (x4 : A4) (x5 : A5) (x6 : A6) (x7 : A7) (x8 : A8) (x9 : A9) (x10 : A10) (h : I x0 x1 x2 x3 x4 x5 x6 x7 x8 x9 x10) : ∃ n, zIt (fun _ _ _ _ _ _ _ _ _ _ _ => False) F n x0 x1 x2 x3 x4 x5 x6 x7 x8 x9 x10 := by
  have key : ∀ (n : Nat) (x0 : A0) (x1 : A1) (x2 : A2) (x3 : A3) (x4 : A4) (x5 : A5) (x6 : A6) (x7 : A7) (x8 : A8) (x9 : A9) (x10 : A10), I x0 x1 x2 x3 x4 x5 x6 x7 x8 x9 x10 → μ x0 x1 x2 x3 x4 x5 x6 x7 x8 x9 x10 < n → zIt (fun _ _ _ _ _ _ _ _ _ _ _ => False) F n x0 x1 x2 x3 x4 x5 x6 x7 x8 x9 x10 := by
    intro n
    induction n with
    | zero => intro x0 x1 x2 x3 x4 x5 x6 x7 x8 x9 x10 _ h; exact absurd h (Nat.not_lt_zero _)
    | succ n ih => intro x0 x1 x2 x3 x4 x5 x6 x7 x8 x9 x10 hx hm; exact hs _ x0 x1 x2 x3 x4 x5 x6 x7 x8 x9 x10 hx (fun y0 y1 y2 y3 y4 y5 y6 y7 y8 y9 y10 h1 h2 => ih y0 y1 y2 y3 y4 y5 y6 y7 y8 y9 y10 h1 (by omega))
  exact ⟨_, key _ x0 x1 x2 x3 x4 x5 x6 x7 x8 x9 x10 h (Nat.lt_succ_self _)⟩
theorem zl12 {A0 A1 A2 A3 A4 A5 A6 A7 A8 A9 A10 A11 : Type} {F : (A0 → A1 → A2 → A3 → A4 → A5 → A6 → A7 → A8 → A9 → A10 → A11 → Prop) → A0 → A1 → A2 → A3 → A4 → A5 → A6 → A7 → A8 → A9 → A10 → A11 → Prop} (I : A0 → A1 → A2 → A3 → A4 → A5 → A6 → A7 → A8 → A9 → A10 → A11 → Prop) (μ : A0 → A1 → A2 → A3 → A4 → A5 → A6 → A7 → A8 → A9 → A10 → A11 → Nat) (hs : ∀ (rec : A0 → A1 → A2 → A3 → A4 → A5 → A6 → A7 → A8 → A9 → A10 → A11 → Prop) (x0 : A0) (x1 : A1) (x2 : A2) (x3 : A3) (x4 : A4) (x5 : A5) (x6 : A6) (x7 : A7) (x8 : A8) (x9 : A9) (x10 : A10) (x11 : A11), I x0 x1 x2 x3 x4 x5 x6 x7 x8 x9 x10 x11 → (∀ (y0 : A0) (y1 : A1) (y2 : A2) (y3 : A3) (y4 : A4) (y5 : A5) (y6 : A6) (y7 : A7) (y8 : A8) (y9 : A9) (y10 : A10) (y11 : A11), I y0 y1 y2 y3 y4 y5 y6 y7 y8 y9 y10 y11 → μ y0 y1 y2 y3 y4 y5 y6 y7 y8 y9 y10 y11 < μ x0 x1 x2 x3 x4 x5 x6 x7 x8 x9 x10 x11 → rec y0 y1 y2 y3 y4 y5 y6 y7 y8 y9 y10 y11) → F rec x0 x1 x2 x3 x4 x5 x6 x7 x8 x9 x10 x11) (x0 : A0) (x1 : A1) (x2 : A2) (x3 : A3) (x4 : A4) (x5 : A5) (x6 : A6) (x7 : A7) (x8 : A8) (x9 : A9) (x10 : A10) (x11 : A11) (h : I x0 x1 x2 x3 x4 x5 x6 x7 x8 x9 x10 x11) : ∃ n, zIt (fun _ _ _ _ _ _ _ _ _ _ _ _ => False) F n x0 x1 x2 x3 x4 x5 x6 x7 x8 x9 x10 x11 := by
  have key : ∀ (n : Nat) (x0 : A0) (x1 : A1) (x2 : A2) (x3 : A3) (x4 : A4) (x5 : A5) (x6 : A6) (x7 : A7) (x8 : A8) (x9 : A9) (x10 : A10) (x11 : A11), I x0 x1 x2 x3 x4 x5 x6 x7 x8 x9 x10 x11 → μ x0 x1 x2 x3 x4 x5 x6 x7 x8 x9 x10 x11 < n → zIt (fun _ _ _ _ _ _ _ _ _ _ _ _ => False) F n x0 x1 x2 x3 x4 x5 x6 x7 x8 x9 x10 x11 := by
    intro n
    induction n with
    | zero => intro x0 x1 x2 x3 x4 x5 x6 x7 x8 x9 x10 x11 _ h; exact absurd h (Nat.not_lt_zero _)
    | succ n ih => intro x0 x1 x2 x3 x4 x5 x6 x7 x8 x9 x10 x11 hx hm; exact hs _ x0 x1 x2 x3 x4 x5 x6 x7 x8 x9 x10 x11 hx (fun y0 y1 y2 y3 y4 y5 y6 y7 y8 y9 y10 y11 h1 h2 => ih y0 y1 y2 y3 y4 y5 y6 y7 y8 y9 y10 y11 h1 (by omega))
  exact ⟨_, key _ x0 x1 x2 x3 x4 x5 x6 x7 x8 x9 x10 x11 h (Nat.lt_succ_self _)⟩
section ZK
variable {X : zX} {σ : zS} {pc : Nat} {ls : List (Option Value)} {st : List Value}
theorem zkI {K : Int32 → zS → Prop} (h : ∀ r s, K r s → zW X s pc ls (.int r :: st)) : ∀ v s, zqI K v s → zW X s pc ls (v.toList ++ st) := by
  rintro v s ⟨r, rfl, hk⟩
  exact h r s hk
theorem zkL {K : Int64 → zS → Prop} (h : ∀ r s, K r s → zW X s pc ls (.long r :: st)) : ∀ v s, zqL K v s → zW X s pc ls (v.toList ++ st) := by
  rintro v s ⟨r, rfl, hk⟩
  exact h r s hk
theorem zkD {K : UInt64 → zS → Prop} (h : ∀ r s, K r s → zW X s pc ls (.double r :: st)) : ∀ v s, zqD K v s → zW X s pc ls (v.toList ++ st) := by
  rintro v s ⟨r, rfl, hk⟩
  exact h r s hk
theorem zkF {K : UInt32 → zS → Prop} (h : ∀ r s, K r s → zW X s pc ls (.float r :: st)) : ∀ v s, zqF K v s → zW X s pc ls (v.toList ++ st) := by
  rintro v s ⟨r, rfl, hk⟩
  exact h r s hk
theorem zkR {K : Option Nat → zS → Prop} (h : ∀ r s, K r s → zW X s pc ls (va_rf r :: st)) : ∀ v s, zqR K v s → zW X s pc ls (v.toList ++ st) := by
  rintro v s ⟨r, rfl, hk⟩
  exact h r s hk
theorem zkV {K : zS → Prop} (h : ∀ s, K s → zW X s pc ls st) : ∀ v s, zqV K v s → zW X s pc ls (v.toList ++ st) := by
  rintro v s ⟨rfl, hk⟩
  exact h s hk
theorem z_nm (k : ∀ s, s = σ → zW X s pc ls st) : zW X σ pc ls st := k σ rfl
theorem z_topi {x : Int32} (k : ∀ y : Int32, y = x → zW X σ pc ls (.int y :: st)) : zW X σ pc ls (.int x :: st) := k x rfl
theorem z_topl {x : Int64} (k : ∀ y : Int64, y = x → zW X σ pc ls (.long y :: st)) : zW X σ pc ls (.long x :: st) := k x rfl
theorem zn_o (c : String) (r : Option Nat) : narrow (.object c) (va_rf r) = va_rf r := by cases r <;> rfl
theorem zn_a (t : FieldType) (r : Option Nat) : narrow (.array t) (va_rf r) = va_rf r := by cases r <;> rfl
theorem zf_o (c : String) (r : Option Nat) : fits (.object c) (va_rf r) = true := by cases r <;> rfl
theorem zf_a (t : FieldType) (r : Option Nat) : fits (.array t) (va_rf r) = true := by cases r <;> rfl
theorem zn_z {x : Int32} (h : zbool x) : narrow .boolean (.int x) = .int x := by rcases h with h | h <;> subst h <;> decide +kernel
theorem zf_z {x : Int32} (h : zbool x) : fits .boolean (.int x) = true := by rcases h with h | h <;> subst h <;> decide +kernel
end ZK
theorem zout {X : zX} {own : String} {cc : ByteArray} {nL : Nat} {ret : Option FieldType} {pc : Nat} {ls : List (Option Value)} {Qr : zQ} {Xr : zY} (hX : zOk X own cc nL ret) (hR : zR X Qr Xr) (hT : ∀ x ∈ X.c.exceptionTable.toList, False) : ∀ q s, Xr q s → zT X s pc ls q := fun _ _ h => z_out hX hR (fun x hx => (hT x hx).elim) h
/-- a table's cases -/
theorem zsw (x : Int32) (lo : Int) (n : Nat) (hlo : -1000000 ≤ lo ∧ lo ≤ 1000000) (hn : n ≤ 1000000) : (x.toInt < lo ∨ lo + n ≤ x.toInt) ∨ ∃ j : Nat, j < n ∧ x = Int32.ofInt (lo + j) := by
  by_cases h : x.toInt < lo ∨ lo + n ≤ x.toInt
  · exact Or.inl h
  · refine Or.inr ⟨(x.toInt - lo).toNat, by omega, ?_⟩
    rw [show lo + ((x.toInt - lo).toNat : Int) = x.toInt by omega, Int32.ofInt_toInt]
