/-! NUMBERS, BITS, LOOPS: what the reading of the predicates uses -/
theorem zn_lt {k : Nat} (h : k < 31) : 2 ^ k < 2147483648 := by
  have : 2 ^ k < 2 ^ 31 := Nat.pow_lt_pow_right (by omega) h
  omega
theorem zn_shl : ∀ k, k < 31 → ((1 : Int32) <<< (nI k &&& 31)) = nI (2 ^ k) := by decide +kernel
theorem zn_bt (s i : Nat) (hi : i < 32) : bt (nI s) i = s.testBit i := by
  show (BitVec.ofNat 32 s).getLsbD i = _
  rw [BitVec.getLsbD_ofNat]
  simp [hi]
theorem zn_tb {s : Nat} (hs : s < 2147483648) {i : Nat} (hi : 31 ≤ i) : s.testBit i = false := by
  refine Nat.testBit_lt_two_pow ?_
  have : 2 ^ 31 ≤ 2 ^ i := Nat.pow_le_pow_right (by omega) hi
  omega
theorem zn_shr {s k : Nat} (hs : s < 2147483648) (hk : k < 32) : nI s >>> (nI k &&& 31) = nI (s >>> k) := by
  refine b_ext (fun i hi => ?_)
  rw [b_sshr k hk _ hi, zn_bt _ _ hi, Nat.testBit_shiftRight]
  by_cases h : k + i < 32
  · rw [if_pos h, zn_bt _ _ h]
  · rw [if_neg h, zn_bt _ _ (by omega), zn_tb hs (by omega), zn_tb hs (by omega)]
theorem zn_bit {s k : Nat} (hs : s < 2147483648) (hk : k < 32) : ((nI s >>> (nI k &&& 31)) &&& 1) = 1 ↔ s.testBit k = true := by
  rw [zn_shr hs hk]
  show nI (s >>> k) &&& nI 1 = nI 1 ↔ _
  rw [nx_and, Nat.and_one_is_mod, nI_eq (by omega) (by omega), Nat.testBit_eq_decide_div_mod_eq, Nat.shiftRight_eq_div_pow, decide_eq_true_iff]
theorem zn_bit0 {s k : Nat} (hs : s < 2147483648) (hk : k < 32) : ((nI s >>> (nI k &&& 31)) &&& 1) = 0 ↔ s.testBit k = false := by
  rw [zn_shr hs hk]
  show nI (s >>> k) &&& nI 1 = nI 0 ↔ _
  rw [nx_and, Nat.and_one_is_mod, nI_eq (by omega) (by omega), Nat.testBit_eq_decide_div_mod_eq, Nat.shiftRight_eq_div_pow, decide_eq_false_iff_not]
  omega
theorem zn_free {p n : Nat} (hn : n < 31) (hp : p < 2 ^ n) : nI (2 ^ n - 1) &&& (nI p ^^^ (-1)) = nI (2 ^ n - 1 - p) := by
  refine b_ext (fun i hi => ?_)
  rw [b_and, b_xor, b_m1 i hi, zn_bt _ _ hi, zn_bt _ _ hi, zn_bt _ _ hi, show 2 ^ n - 1 - p = 2 ^ n - (p + 1) by omega, Nat.testBit_two_pow_sub_succ hp, Nat.testBit_two_pow_sub_one]
  simp
theorem zn_andlt {a b n : Nat} (h : b < n) : a &&& b < n := Nat.lt_of_le_of_lt Nat.and_le_right h
theorem zn_sub {a b : Nat} (h : b ≤ a) : nI a - nI b = nI (a - b) := by
  have h1 : nI (a - b) + nI b = nI a := by rw [nI_add, show a - b + b = a by omega]
  rw [← h1]
  apply Int32.toBitVec_inj.1
  show (nI (a - b)).toBitVec + (nI b).toBitVec - (nI b).toBitVec = (nI (a - b)).toBitVec
  rw [BitVec.add_sub_cancel]
theorem zn_mul (a b : Nat) : nI a * nI b = nI (a * b) := (Int32.ofNat_mul a b).symm
/-- ints by whole numbers -/
def iI (z : Int) : Int32 := Int32.ofInt z
theorem iI_nat (n : Nat) : iI (n : Int) = nI n := rfl
theorem iI_add (a b : Int) : iI a + iI b = iI (a + b) := (Int32.ofInt_add a b).symm
theorem iI_sub (a b : Int) : iI a - iI b = iI (a - b) := (Int32.ofInt_sub a b).symm
theorem iI_neg (a : Int) : -iI a = iI (-a) := (Int32.ofInt_neg a).symm
theorem iI_mul (a b : Int) : iI a * iI b = iI (a * b) := (Int32.ofInt_mul a b).symm
theorem iI_of (x : Int32) : iI x.toInt = x := Int32.ofInt_toInt x
theorem iI_to {z : Int} (h1 : -2147483648 ≤ z) (h2 : z < 2147483648) : (iI z).toInt = z := fb_ofI h1 h2
theorem iI_le {a b : Int} (h1 : -2147483648 ≤ a) (h2 : a < 2147483648) (h3 : -2147483648 ≤ b) (h4 : b < 2147483648) : iI a ≤ iI b ↔ a ≤ b := by rw [fa_le, iI_to h1 h2, iI_to h3 h4]
theorem iI_lt {a b : Int} (h1 : -2147483648 ≤ a) (h2 : a < 2147483648) (h3 : -2147483648 ≤ b) (h4 : b < 2147483648) : iI a < iI b ↔ a < b := by rw [fa_lt, iI_to h1 h2, iI_to h3 h4]
theorem iI_eq {a b : Int} (h1 : -2147483648 ≤ a) (h2 : a < 2147483648) (h3 : -2147483648 ≤ b) (h4 : b < 2147483648) : iI a = iI b ↔ a = b := by rw [fa_eq, iI_to h1 h2, iI_to h3 h4]
theorem nI_cl {k : Nat} (h : k < 2147483648) : (nI k).toNatClampNeg = k := nI_clamp (by omega)
theorem nI_i {k N : Nat} (h : k < N) (hN : N < 2147483648) : vp_in (nI k) N := vp_in_nI h (by omega)
/-- a loop over numbers: its counter goes from a up to b -/
theorem zf2 {F : (Int32 → zS → Prop) → Int32 → zS → Prop} (a b : Nat) (I : Nat → zS → Prop) (hab : a ≤ b) (h1 : ∀ (rec : Int32 → zS → Prop) k s, a ≤ k → k < b → I k s → (∀ s', I (k + 1) s' → rec (nI k + 1) s') → F rec (nI k) s) (h2 : ∀ rec s, I b s → F rec (nI b) s) {σ : zS} (h0 : I a σ) : ∃ n, zIt (fun _ _ => False) F n (nI a) σ := by
  have key : ∀ (j : Nat) (k : Nat) (s : zS), k + j = b → a ≤ k → I k s → zIt (fun _ _ => False) F (j + 1) (nI k) s := by
    intro j
    induction j with
    | zero =>
      intro k s e _ hI
      rw [Nat.add_zero] at e
      subst e
      exact h2 _ s hI
    | succ j ih =>
      intro k s e ha hI
      refine h1 _ k s ha (by omega) hI (fun s' hI' => ?_)
      rw [nI_1]
      exact ih (k + 1) s' (by omega) (by omega) hI'
  exact ⟨_, key (b - a) a σ (by omega) (Nat.le_refl _) h0⟩
theorem zf3 {τ : Type} {F : (τ → Int32 → zS → Prop) → τ → Int32 → zS → Prop} (a b : Nat) (I : Nat → τ → zS → Prop) (hab : a ≤ b) (h1 : ∀ (rec : τ → Int32 → zS → Prop) k x s, a ≤ k → k < b → I k x s → (∀ x' s', I (k + 1) x' s' → rec x' (nI k + 1) s') → F rec x (nI k) s) (h2 : ∀ rec x s, I b x s → F rec x (nI b) s) {x : τ} {σ : zS} (h0 : I a x σ) : ∃ n, zIt (fun _ _ _ => False) F n x (nI a) σ := by
  have key : ∀ (j : Nat) (k : Nat) (x : τ) (s : zS), k + j = b → a ≤ k → I k x s → zIt (fun _ _ _ => False) F (j + 1) x (nI k) s := by
    intro j
    induction j with
    | zero =>
      intro k x s e _ hI
      rw [Nat.add_zero] at e
      subst e
      exact h2 _ x s hI
    | succ j ih =>
      intro k x s e ha hI
      refine h1 _ k x s ha (by omega) hI (fun x' s' hI' => ?_)
      rw [nI_1]
      exact ih (k + 1) x' s' (by omega) (by omega) hI'
  exact ⟨_, key (b - a) a x σ (by omega) (Nat.le_refl _) h0⟩
theorem zqI_r {K : Int32 → zS → Prop} {x : Int32} {s : zS} : zqI K (some (.int x)) s ↔ K x s := ⟨fun ⟨_, h1, h2⟩ => by cases h1; exact h2, fun h => ⟨x, rfl, h⟩⟩
theorem zqL_r {K : Int64 → zS → Prop} {x : Int64} {s : zS} : zqL K (some (.long x)) s ↔ K x s := ⟨fun ⟨_, h1, h2⟩ => by cases h1; exact h2, fun h => ⟨x, rfl, h⟩⟩
theorem zqD_r {K : UInt64 → zS → Prop} {x : UInt64} {s : zS} : zqD K (some (.double x)) s ↔ K x s := ⟨fun ⟨_, h1, h2⟩ => by cases h1; exact h2, fun h => ⟨x, rfl, h⟩⟩
theorem zqF_r {K : UInt32 → zS → Prop} {x : UInt32} {s : zS} : zqF K (some (.float x)) s ↔ K x s := ⟨fun ⟨_, h1, h2⟩ => by cases h1; exact h2, fun h => ⟨x, rfl, h⟩⟩
theorem zqV_r {K : zS → Prop} {s : zS} : zqV K none s ↔ K s := ⟨fun h => h.2, fun h => ⟨rfl, h⟩⟩
theorem va_rf_inj {v w : Option Nat} (h : va_rf v = va_rf w) : v = w := by cases v <;> cases w <;> first | rfl | (cases h; done) | (cases h; rfl)
theorem zqR_r {K : Option Nat → zS → Prop} {x : Option Nat} {s : zS} : zqR K (some (va_rf x)) s ↔ K x s := ⟨fun ⟨_, h1, h2⟩ => by rw [va_rf_inj (Option.some.inj h1)]; exact h2, fun h => ⟨x, rfl, h⟩⟩
theorem zqR_s {K : Option Nat → zS → Prop} {x : Nat} {s : zS} : zqR K (some (.ref x)) s ↔ K (some x) s := zqR_r (x := some x)
theorem zeqv {x : Int32} {K : Int32 → Prop} : (∀ v : Int32, v = x → K v) ↔ K x := ⟨fun h => h x rfl, fun h _ e => e ▸ h⟩
