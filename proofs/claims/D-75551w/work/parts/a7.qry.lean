/-! THE REFERENCE: queries: operators -/
theorem lc_cases (x y : Int64) : (lg_cmp x y = 1 ∧ y.toInt < x.toInt) ∨ (lg_cmp x y = 0 ∧ x.toInt = y.toInt) ∨ (lg_cmp x y = -1 ∧ x.toInt < y.toInt) := by
  unfold lg_cmp
  simp only [gt_iff_lt, Int64.lt_iff_toInt_lt, ← Int64.toInt_inj]
  by_cases h1 : y.toInt < x.toInt
  · rw [if_pos h1]
    exact Or.inl ⟨rfl, h1⟩
  · rw [if_neg h1]
    by_cases h2 : x.toInt = y.toInt
    · rw [if_pos h2]
      exact Or.inr (Or.inl ⟨rfl, h2⟩)
    · rw [if_neg h2]
      exact Or.inr (Or.inr ⟨rfl, by omega⟩)
/-- an operator's answer -/
def zq_op (c : Int32) (x y : Int64) : Int64 := if c = -20 then (if x.toInt < y.toInt then 1 else 0) else if c = -21 then (if x.toInt = y.toInt then 1 else 0) else if c = -22 then (if y.toInt < x.toInt then 1 else 0) else if c = -24 then x &&& y else x ||| y
theorem zt_294 {G : zPg} {n : Nat} {s : zS} {Q : zQ} {Y : zY} {c : Int32} {x y : Int64} (hc : c = -20 ∨ c = -21 ∨ c = -22 ∨ c = -24 ∨ c = -25) (h : Q (some (.long (zq_op c x y))) s) : zCall G (n + 1) 294 [.int c, .long x, .long y] Q Y s := by
  refine ze294 ⟨_, _, _, rfl, ?_⟩
  have e24 : (-24 : Int32).toInt = -24 := by decide
  have lc := lc_cases x y
  rcases hc with rfl | rfl | rfl | rfl | rfl
  · have e : zq_op (-20) x y = if x.toInt < y.toInt then 1 else 0 := if_pos rfl
    rw [e] at h
    refine ⟨fun h9 => absurd h9 (by decide), fun h9 => absurd h9 (by decide), fun h9 => absurd h9 (by decide), fun h9 => absurd h9 (by decide), fun h9 => absurd h9 (by decide), fun _ => ?_⟩
    rcases lc with ⟨g1, g2⟩ | ⟨g1, g2⟩ | ⟨g1, g2⟩
    · rw [if_neg (by omega)] at h
      rw [g1]
      exact ⟨fun _ => h, fun h9 => absurd (by decide) h9⟩
    · rw [if_neg (by omega)] at h
      rw [g1]
      exact ⟨fun _ => h, fun h9 => absurd (by decide) h9⟩
    · rw [if_pos g2] at h
      rw [g1]
      exact ⟨fun h9 => absurd h9 (by decide), fun _ => h⟩
  · have e : zq_op (-21) x y = if x.toInt = y.toInt then 1 else 0 := rfl
    rw [e] at h
    refine ⟨fun h9 => absurd h9 (by decide), fun h9 => absurd h9 (by decide), fun h9 => absurd h9 (by decide), fun h9 => absurd h9 (by decide), fun _ => ?_, fun h9 => absurd h9 (by decide)⟩
    rcases lc with ⟨g1, g2⟩ | ⟨g1, g2⟩ | ⟨g1, g2⟩
    · rw [if_neg (by omega)] at h
      rw [g1]
      exact ⟨fun _ => h, fun h9 => absurd h9 (by decide)⟩
    · rw [if_pos g2] at h
      rw [g1]
      exact ⟨fun h9 => absurd rfl h9, fun _ => h⟩
    · rw [if_neg (by omega)] at h
      rw [g1]
      exact ⟨fun _ => h, fun h9 => absurd h9 (by decide)⟩
  · have e : zq_op (-22) x y = if y.toInt < x.toInt then 1 else 0 := rfl
    rw [e] at h
    refine ⟨fun h9 => absurd h9 (by decide), fun h9 => absurd h9 (by decide), fun h9 => absurd h9 (by decide), fun _ => ?_, fun h9 => absurd h9 (by decide), fun h9 => absurd h9 (by decide)⟩
    rcases lc with ⟨g1, g2⟩ | ⟨g1, g2⟩ | ⟨g1, g2⟩
    · rw [if_pos g2] at h
      rw [g1]
      exact ⟨fun h9 => absurd h9 (by decide), fun _ => h⟩
    · rw [if_neg (by omega)] at h
      rw [g1]
      exact ⟨fun _ => h, fun h9 => absurd (by decide) h9⟩
    · rw [if_neg (by omega)] at h
      rw [g1]
      exact ⟨fun _ => h, fun h9 => absurd (by decide) h9⟩
  · have e : zq_op (-24) x y = x &&& y := rfl
    rw [e] at h
    exact ⟨fun h9 => absurd h9 (by decide), fun _ => h, fun h9 => absurd h9 (by decide), fun h9 => absurd h9 (by decide), fun h9 => absurd h9 (by decide), fun h9 => absurd h9 (by decide)⟩
  · have e : zq_op (-25) x y = x ||| y := rfl
    rw [e] at h
    exact ⟨fun _ => h, fun h9 => absurd h9 (by decide), fun h9 => absurd h9 (by decide), fun h9 => absurd h9 (by decide), fun h9 => absurd h9 (by decide), fun h9 => absurd h9 (by decide)⟩
