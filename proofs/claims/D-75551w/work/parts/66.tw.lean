/-! THE REFERENCE's CELLS AS ONE STATE (printed by gen/gtw.py): its int fields, long fields, int arrays, long arrays, by number -/
abbrev zt_M : Type := (Nat → Int32) × (Nat → Int64) × (Nat → Nat → Int32) × (Nat → Nat → Int64)
abbrev zt_M.I (M : zt_M) := M.1
abbrev zt_M.L (M : zt_M) := M.2.1
abbrev zt_M.A (M : zt_M) := M.2.2.1
abbrev zt_M.B (M : zt_M) := M.2.2.2
abbrev zt_M.sI (M : zt_M) (k : Nat) (x : Int32) : zt_M := (va_up M.1 k x, M.2)
abbrev zt_M.sL (M : zt_M) (k : Nat) (x : Int64) : zt_M := (M.1, va_up M.2.1 k x, M.2.2)
abbrev zt_M.sA (M : zt_M) (j : Nat) (f : Nat → Int32) : zt_M := (M.1, M.2.1, va_up M.2.2.1 j f, M.2.2.2)
abbrev zt_M.sB (M : zt_M) (j : Nat) (f : Nat → Int64) : zt_M := (M.1, M.2.1, M.2.2.1, va_up M.2.2.2 j f)
def zt_fs (m : Nat) (M : zt_M) : List Value := [va_rf (some (m + 1)), va_rf (some (m + 2)), va_rf (some (m + 3)), va_rf (some (m + 4)), .int (M.1 4), .int (M.1 5), .int (M.1 6), va_rf (some (m + 5)), va_rf (some (m + 6)), va_rf (some (m + 7)), va_rf (some (m + 8)), va_rf (some (m + 9)), va_rf (some (m + 10)), va_rf (some (m + 11)), va_rf (some (m + 12)), .int (M.1 15), va_rf (some (m + 13)), va_rf (some (m + 14)), va_rf (some (m + 15)), .long (M.2.1 19), .long (M.2.1 20), .int (M.1 21), .int (M.1 22), .int (M.1 23), va_rf (some (m + 16)), va_rf (some (m + 17)), .int (M.1 26), va_rf (some (m + 18)), .int (M.1 28), .int (M.1 29), .int (M.1 30), .int (M.1 31), .int (M.1 32), .int (M.1 33), .int (M.1 34), .int (M.1 35), .int (M.1 36), va_rf (some (m + 19)), va_rf (some (m + 20)), va_rf (some (m + 21)), .int (M.1 40)]
def zt_c (m : Nat) (N : Nat → Option Nat) (M : zt_M) : Nat → Option va_E
  | 0 => some (.inr (4, zt_fs m M))
  | 1 => some (.inl (0, 61, .inl (M.2.2.1 1)))
  | 2 => some (.inl (0, 61, .inl (M.2.2.1 2)))
  | 3 => some (.inl (0, 61, .inl (M.2.2.1 3)))
  | 4 => some (.inl (0, 610, .inl (M.2.2.1 4)))
  | 5 => some (.inl (0, 1024, .inl (M.2.2.1 5)))
  | 6 => some (.inl (0, 1024, .inl (M.2.2.1 6)))
  | 7 => some (.inl (0, 1024, .inl (M.2.2.1 7)))
  | 8 => some (.inl (0, 1024, .inl (M.2.2.1 8)))
  | 9 => some (.inl (0, 1024, .inl (M.2.2.1 9)))
  | 10 => some (.inl (0, 25, .inl (M.2.2.1 10)))
  | 11 => some (.inl (0, 5, .inl (M.2.2.1 11)))
  | 12 => some (.inl (0, 5, .inl (M.2.2.1 12)))
  | 13 => some (.inl (1, 125, .inr (.inl (M.2.2.2 13))))
  | 14 => some (.inl (1, 5, .inr (.inl (M.2.2.2 14))))
  | 15 => some (.inl (1, 5, .inr (.inl (M.2.2.2 15))))
  | 16 => some (.inl (0, 4096, .inl (M.2.2.1 16)))
  | 17 => some (.inl (0, 20, .inl (M.2.2.1 17)))
  | 18 => some (.inl (0, 500, .inl (M.2.2.1 18)))
  | 19 => some (.inl (8, 9, .inr (.inr (.inr (.inr N)))))
  | 20 => some (.inl (0, 200, .inl (M.2.2.1 20)))
  | 21 => some (.inl (1, 200, .inr (.inl (M.2.2.2 21))))
  | _ => none
def zt_S (σ : zS) (m : Nat) (N : Nat → Option Nat) (M : zt_M) : zS := (fun a => if m ≤ a ∧ a < m + 22 then zt_c m N M (a - m) else σ.1 a, σ.2)
section ZTW
variable {σ : zS} {m z0 : Nat} {N : Nat → Option Nat} {M : zt_M}
theorem zt_at {j : Nat} (h : j < 22) : (zt_S σ m N M).1 (m + j) = zt_c m N M j := by
  show (if m ≤ m + j ∧ m + j < m + 22 then zt_c m N M (m + j - m) else σ.1 (m + j)) = _
  rw [if_pos (by omega), show m + j - m = j by omega]
theorem zt_o : (zt_S σ m N M).1 m = some (.inr (4, zt_fs m M)) := zt_at (j := 0) (by omega)
theorem zt_out {a : Nat} (h : a < m ∨ m + 22 ≤ a) : (zt_S σ m N M).1 a = σ.1 a := if_neg (by omega)
theorem zt_S2 : (zt_S σ m N M).2 = σ.2 := rfl
/-- a cell of it is written: another state of it -/
theorem zt_wr {M' : zt_M} {j : Nat} {e : va_E} (hj : j < 22) (h1 : zt_c m N M' j = some e) (h2 : ∀ k, k < 22 → k ≠ j → zt_c m N M' k = zt_c m N M k) : ((zup (zt_S σ m N M).1 (m + j) e, (zt_S σ m N M).2) : zS) = zt_S σ m N M' := by
  refine Prod.ext (funext fun a => ?_) rfl
  show (if a = m + j then some e else (zt_S σ m N M).1 a) = (zt_S σ m N M').1 a
  by_cases ha : m ≤ a ∧ a < m + 22
  · obtain ⟨k, rfl⟩ : ∃ k, a = m + k := ⟨a - m, by omega⟩
    rw [zt_at (by omega), zt_at (by omega)]
    by_cases hk : k = j
    · subst hk
      rw [if_pos rfl, h1]
    · rw [if_neg (by omega), h2 k (by omega) hk]
  · rw [if_neg (by omega), zt_out (by omega), zt_out (by omega)]
theorem zt_id (h : ∀ k, k < 22 → σ.1 (m + k) = zt_c m N M k) : zt_S σ m N M = σ := by
  refine Prod.ext (funext fun a => ?_) rfl
  by_cases ha : m ≤ a ∧ a < m + 22
  · obtain ⟨k, rfl⟩ : ∃ k, a = m + k := ⟨a - m, by omega⟩
    rw [zt_at (by omega), h k (by omega)]
  · rw [zt_out (by omega)]
theorem zt_SS {M' : zt_M} : zt_S (zt_S σ m N M) m N M' = zt_S σ m N M' := by
  refine Prod.ext (funext fun a => ?_) rfl
  by_cases ha : m ≤ a ∧ a < m + 22
  · obtain ⟨k, rfl⟩ : ∃ k, a = m + k := ⟨a - m, by omega⟩
    rw [zt_at (by omega), zt_at (by omega)]
  · rw [zt_out (by omega), zt_out (by omega), zt_out (by omega)]
theorem zt_rc {K : Nat → Prop} : zrc (zt_S σ m N M) (some m) 4 K ↔ K m := by
  constructor
  · rintro ⟨a, fs, h1, h2, h3⟩
    cases h1
    exact h3
  · exact fun h => ⟨m, _, rfl, zt_o, h⟩
theorem zt_gI {k : Nat} {v : Int32} (hk : (zt_fs m M)[k]? = some (.int v)) {K : Int32 → Prop} : zgI (zt_S σ m N M) (some m) 4 k K ↔ K v := by
  constructor
  · rintro ⟨a, fs, w, h1, h2, h3, h4⟩
    cases h1
    rw [zt_o] at h2
    cases h2
    rw [hk] at h3
    cases h3
    exact h4
  · exact fun h => ⟨m, _, _, rfl, zt_o, hk, h⟩
theorem zt_gL {k : Nat} {v : Int64} (hk : (zt_fs m M)[k]? = some (.long v)) {K : Int64 → Prop} : zgL (zt_S σ m N M) (some m) 4 k K ↔ K v := by
  constructor
  · rintro ⟨a, fs, w, h1, h2, h3, h4⟩
    cases h1
    rw [zt_o] at h2
    cases h2
    rw [hk] at h3
    cases h3
    exact h4
  · exact fun h => ⟨m, _, _, rfl, zt_o, hk, h⟩
theorem zt_gR {k : Nat} {v : Option Nat} (hk : (zt_fs m M)[k]? = some (va_rf v)) {K : Option Nat → Prop} : zgR (zt_S σ m N M) (some m) 4 k K ↔ K v := by
  constructor
  · rintro ⟨a, fs, w, h1, h2, h3, h4⟩
    cases h1
    rw [zt_o] at h2
    cases h2
    rw [hk] at h3
    have h5 : va_rf v = va_rf w := Option.some.inj h3
    have h6 : v = w := by cases v <;> cases w <;> first | rfl | (cases h5; done) | (cases h5; rfl)
    rw [h6]
    exact h4
  · exact fun h => ⟨m, _, _, rfl, zt_o, hk, h⟩
theorem zt_put {k : Nat} {v : Value} {M' : zt_M} (hk : k < 41) (h1 : (zt_fs m M).set k v = zt_fs m M') (h2 : ∀ j, j < 22 → j ≠ 0 → zt_c m N M' j = zt_c m N M j) (hz : z0 ≤ m) {K : zS → Prop} : zput (zt_S σ m N M) z0 (some m) 4 k v K ↔ K (zt_S σ m N M') := by
  have e : ((zup (zt_S σ m N M).1 m (.inr (4, (zt_fs m M).set k v)), (zt_S σ m N M).2) : zS) = zt_S σ m N M' := zt_wr (j := 0) (by omega) (by rw [h1]; rfl) h2
  constructor
  · rintro ⟨a, fs, g1, g2, g3, g4, g5⟩
    cases g1
    rw [zt_o] at g3
    cases g3
    have g6 := g5 _ rfl
    rw [e] at g6
    exact g6
  · exact fun h => ⟨m, _, rfl, hz, zt_o, hk, fun s hs => by rw [hs, e]; exact h⟩
theorem zt_aI {j n : Nat} {f : Nat → Int32} (hj : j < 22) (h : zt_c m N M j = some (.inl (0, n, .inl f))) {i : Int32} {K : Int32 → Prop} : zaI (zt_S σ m N M) 0 (some (m + j)) i K ↔ vp_in i n ∧ K (f i.toNatClampNeg) := by
  constructor
  · rintro ⟨a, n', f', h1, h2, h3, h4⟩
    cases h1
    rw [zt_at hj, h] at h2
    cases h2
    exact ⟨h3, h4⟩
  · exact fun h9 => ⟨m + j, _, _, rfl, by rw [zt_at hj, h], h9.1, h9.2⟩
theorem zt_aL {j n : Nat} {f : Nat → Int64} (hj : j < 22) (h : zt_c m N M j = some (.inl (1, n, .inr (.inl f)))) {i : Int32} {K : Int64 → Prop} : zaL (zt_S σ m N M) (some (m + j)) i K ↔ vp_in i n ∧ K (f i.toNatClampNeg) := by
  constructor
  · rintro ⟨a, n', f', h1, h2, h3, h4⟩
    cases h1
    rw [zt_at hj, h] at h2
    cases h2
    exact ⟨h3, h4⟩
  · exact fun h9 => ⟨m + j, _, _, rfl, by rw [zt_at hj, h], h9.1, h9.2⟩
theorem zt_aR {j n t : Nat} {f : Nat → Option Nat} (hj : j < 22) (h : zt_c m N M j = some (.inl (t, n, .inr (.inr (.inr (.inr f)))))) {i : Int32} {K : Option Nat → Prop} : zaR (zt_S σ m N M) t (some (m + j)) i K ↔ vp_in i n ∧ K (f i.toNatClampNeg) := by
  constructor
  · rintro ⟨a, n', f', h1, h2, h3, h4⟩
    cases h1
    rw [zt_at hj, h] at h2
    cases h2
    exact ⟨h3, h4⟩
  · exact fun h9 => ⟨m + j, _, _, rfl, by rw [zt_at hj, h], h9.1, h9.2⟩
theorem zt_ln {j t : Nat} {x : vp_A} (hj : j < 22) (h : zt_c m N M j = some (.inl (t, x))) {K : Int32 → Prop} : zln (zt_S σ m N M) t (some (m + j)) K ↔ K (nI x.1) := by
  constructor
  · rintro ⟨a, x', h1, h2, h3⟩
    cases h1
    rw [zt_at hj, h] at h2
    cases h2
    exact h3
  · exact fun h9 => ⟨m + j, _, rfl, by rw [zt_at hj, h], h9⟩
theorem zt_sI {j n : Nat} {f : Nat → Int32} {M' : zt_M} {i x : Int32} (hj : j < 22) (h : zt_c m N M j = some (.inl (0, n, .inl f))) (h1 : zt_c m N M' j = some (.inl (0, n, .inl (va_up f i.toNatClampNeg x)))) (h2 : ∀ k, k < 22 → k ≠ j → zt_c m N M' k = zt_c m N M k) (hz : z0 ≤ m) {K : zS → Prop} : zsI (zt_S σ m N M) z0 0 (some (m + j)) i x K ↔ vp_in i n ∧ K (zt_S σ m N M') := by
  have e := zt_wr (σ := σ) (m := m) (N := N) (M := M) hj h1 h2
  constructor
  · rintro ⟨a, n', f', g1, g2, g3, g4, g5⟩
    cases g1
    rw [zt_at hj, h] at g3
    cases g3
    have g6 := g5 _ rfl
    rw [e] at g6
    exact ⟨g4, g6⟩
  · exact fun h9 => ⟨m + j, _, _, rfl, by omega, by rw [zt_at hj, h], h9.1, fun s hs => by rw [hs, e]; exact h9.2⟩
theorem zt_sL {j n : Nat} {f : Nat → Int64} {M' : zt_M} {i : Int32} {x : Int64} (hj : j < 22) (h : zt_c m N M j = some (.inl (1, n, .inr (.inl f)))) (h1 : zt_c m N M' j = some (.inl (1, n, .inr (.inl (va_up f i.toNatClampNeg x))))) (h2 : ∀ k, k < 22 → k ≠ j → zt_c m N M' k = zt_c m N M k) (hz : z0 ≤ m) {K : zS → Prop} : zsL (zt_S σ m N M) z0 (some (m + j)) i x K ↔ vp_in i n ∧ K (zt_S σ m N M') := by
  have e := zt_wr (σ := σ) (m := m) (N := N) (M := M) hj h1 h2
  constructor
  · rintro ⟨a, n', f', g1, g2, g3, g4, g5⟩
    cases g1
    rw [zt_at hj, h] at g3
    cases g3
    have g6 := g5 _ rfl
    rw [e] at g6
    exact ⟨g4, g6⟩
  · exact fun h9 => ⟨m + j, _, _, rfl, by omega, by rw [zt_at hj, h], h9.1, fun s hs => by rw [hs, e]; exact h9.2⟩
theorem zt_c0 {m : Nat} {N : Nat → Option Nat} {M M' : zt_M} (hA : M'.2.2 = M.2.2) : ∀ j, j < 22 → j ≠ 0 → zt_c m N M' j = zt_c m N M j := by
  obtain ⟨I, L, A, B⟩ := M
  obtain ⟨I', L', A', B'⟩ := M'
  cases hA
  intro j hj h0
  match j, hj, h0 with
  | 1, _, _ => rfl
  | 2, _, _ => rfl
  | 3, _, _ => rfl
  | 4, _, _ => rfl
  | 5, _, _ => rfl
  | 6, _, _ => rfl
  | 7, _, _ => rfl
  | 8, _, _ => rfl
  | 9, _, _ => rfl
  | 10, _, _ => rfl
  | 11, _, _ => rfl
  | 12, _, _ => rfl
  | 13, _, _ => rfl
  | 14, _, _ => rfl
  | 15, _, _ => rfl
  | 16, _, _ => rfl
  | 17, _, _ => rfl
  | 18, _, _ => rfl
  | 19, _, _ => rfl
  | 20, _, _ => rfl
  | 21, _, _ => rfl
  | 0, _, h => exact absurd rfl h
  | j + 22, h, _ => exact absurd h (by omega)
theorem zt_cA {m : Nat} {N : Nat → Option Nat} {M : zt_M} {j : Nat} {f : Nat → Int32} (h0 : j ≠ 0) : ∀ k, k < 22 → k ≠ j → zt_c m N (M.sA j f) k = zt_c m N M k := by
  obtain ⟨I, L, A, B⟩ := M
  intro k hk hne
  match k, hk, hne with
  | 0, _, _ => rfl
  | 1, _, hne => simp only [zt_c, va_up, if_neg hne]
  | 2, _, hne => simp only [zt_c, va_up, if_neg hne]
  | 3, _, hne => simp only [zt_c, va_up, if_neg hne]
  | 4, _, hne => simp only [zt_c, va_up, if_neg hne]
  | 5, _, hne => simp only [zt_c, va_up, if_neg hne]
  | 6, _, hne => simp only [zt_c, va_up, if_neg hne]
  | 7, _, hne => simp only [zt_c, va_up, if_neg hne]
  | 8, _, hne => simp only [zt_c, va_up, if_neg hne]
  | 9, _, hne => simp only [zt_c, va_up, if_neg hne]
  | 10, _, hne => simp only [zt_c, va_up, if_neg hne]
  | 11, _, hne => simp only [zt_c, va_up, if_neg hne]
  | 12, _, hne => simp only [zt_c, va_up, if_neg hne]
  | 13, _, _ => rfl
  | 14, _, _ => rfl
  | 15, _, _ => rfl
  | 16, _, hne => simp only [zt_c, va_up, if_neg hne]
  | 17, _, hne => simp only [zt_c, va_up, if_neg hne]
  | 18, _, hne => simp only [zt_c, va_up, if_neg hne]
  | 19, _, _ => rfl
  | 20, _, hne => simp only [zt_c, va_up, if_neg hne]
  | 21, _, _ => rfl
  | k + 22, h, _ => exact absurd h (by omega)
theorem zt_cB {m : Nat} {N : Nat → Option Nat} {M : zt_M} {j : Nat} {f : Nat → Int64} (h0 : j ≠ 0) : ∀ k, k < 22 → k ≠ j → zt_c m N (M.sB j f) k = zt_c m N M k := by
  obtain ⟨I, L, A, B⟩ := M
  intro k hk hne
  match k, hk, hne with
  | 0, _, _ => rfl
  | 1, _, _ => rfl
  | 2, _, _ => rfl
  | 3, _, _ => rfl
  | 4, _, _ => rfl
  | 5, _, _ => rfl
  | 6, _, _ => rfl
  | 7, _, _ => rfl
  | 8, _, _ => rfl
  | 9, _, _ => rfl
  | 10, _, _ => rfl
  | 11, _, _ => rfl
  | 12, _, _ => rfl
  | 13, _, hne => simp only [zt_c, va_up, if_neg hne]
  | 14, _, hne => simp only [zt_c, va_up, if_neg hne]
  | 15, _, hne => simp only [zt_c, va_up, if_neg hne]
  | 16, _, _ => rfl
  | 17, _, _ => rfl
  | 18, _, _ => rfl
  | 19, _, _ => rfl
  | 20, _, _ => rfl
  | 21, _, hne => simp only [zt_c, va_up, if_neg hne]
  | k + 22, h, _ => exact absurd h (by omega)
theorem zt_g0 {K : Option Nat → Prop} : zgR (zt_S σ m N M) (some m) 4 0 K ↔ K (some (m + 1)) := zt_gR rfl
theorem zt_g1 {K : Option Nat → Prop} : zgR (zt_S σ m N M) (some m) 4 1 K ↔ K (some (m + 2)) := zt_gR rfl
theorem zt_g2 {K : Option Nat → Prop} : zgR (zt_S σ m N M) (some m) 4 2 K ↔ K (some (m + 3)) := zt_gR rfl
theorem zt_g3 {K : Option Nat → Prop} : zgR (zt_S σ m N M) (some m) 4 3 K ↔ K (some (m + 4)) := zt_gR rfl
theorem zt_g4 {K : Int32 → Prop} : zgI (zt_S σ m N M) (some m) 4 4 K ↔ K (M.1 4) := zt_gI rfl
theorem zt_p4 {x : Int32} {K : zS → Prop} (hz : z0 ≤ m) : zput (zt_S σ m N M) z0 (some m) 4 4 (.int x) K ↔ K (zt_S σ m N (M.sI 4 x)) := zt_put (M := M) (M' := M.sI 4 x) (k := 4) (by omega) rfl (zt_c0 rfl) hz
theorem zt_g5 {K : Int32 → Prop} : zgI (zt_S σ m N M) (some m) 4 5 K ↔ K (M.1 5) := zt_gI rfl
theorem zt_p5 {x : Int32} {K : zS → Prop} (hz : z0 ≤ m) : zput (zt_S σ m N M) z0 (some m) 4 5 (.int x) K ↔ K (zt_S σ m N (M.sI 5 x)) := zt_put (M := M) (M' := M.sI 5 x) (k := 5) (by omega) rfl (zt_c0 rfl) hz
theorem zt_g6 {K : Int32 → Prop} : zgI (zt_S σ m N M) (some m) 4 6 K ↔ K (M.1 6) := zt_gI rfl
theorem zt_p6 {x : Int32} {K : zS → Prop} (hz : z0 ≤ m) : zput (zt_S σ m N M) z0 (some m) 4 6 (.int x) K ↔ K (zt_S σ m N (M.sI 6 x)) := zt_put (M := M) (M' := M.sI 6 x) (k := 6) (by omega) rfl (zt_c0 rfl) hz
theorem zt_g7 {K : Option Nat → Prop} : zgR (zt_S σ m N M) (some m) 4 7 K ↔ K (some (m + 5)) := zt_gR rfl
theorem zt_g8 {K : Option Nat → Prop} : zgR (zt_S σ m N M) (some m) 4 8 K ↔ K (some (m + 6)) := zt_gR rfl
theorem zt_g9 {K : Option Nat → Prop} : zgR (zt_S σ m N M) (some m) 4 9 K ↔ K (some (m + 7)) := zt_gR rfl
theorem zt_g10 {K : Option Nat → Prop} : zgR (zt_S σ m N M) (some m) 4 10 K ↔ K (some (m + 8)) := zt_gR rfl
theorem zt_g11 {K : Option Nat → Prop} : zgR (zt_S σ m N M) (some m) 4 11 K ↔ K (some (m + 9)) := zt_gR rfl
theorem zt_g12 {K : Option Nat → Prop} : zgR (zt_S σ m N M) (some m) 4 12 K ↔ K (some (m + 10)) := zt_gR rfl
theorem zt_g13 {K : Option Nat → Prop} : zgR (zt_S σ m N M) (some m) 4 13 K ↔ K (some (m + 11)) := zt_gR rfl
theorem zt_g14 {K : Option Nat → Prop} : zgR (zt_S σ m N M) (some m) 4 14 K ↔ K (some (m + 12)) := zt_gR rfl
theorem zt_g15 {K : Int32 → Prop} : zgI (zt_S σ m N M) (some m) 4 15 K ↔ K (M.1 15) := zt_gI rfl
theorem zt_p15 {x : Int32} {K : zS → Prop} (hz : z0 ≤ m) : zput (zt_S σ m N M) z0 (some m) 4 15 (.int x) K ↔ K (zt_S σ m N (M.sI 15 x)) := zt_put (M := M) (M' := M.sI 15 x) (k := 15) (by omega) rfl (zt_c0 rfl) hz
theorem zt_g16 {K : Option Nat → Prop} : zgR (zt_S σ m N M) (some m) 4 16 K ↔ K (some (m + 13)) := zt_gR rfl
theorem zt_g17 {K : Option Nat → Prop} : zgR (zt_S σ m N M) (some m) 4 17 K ↔ K (some (m + 14)) := zt_gR rfl
theorem zt_g18 {K : Option Nat → Prop} : zgR (zt_S σ m N M) (some m) 4 18 K ↔ K (some (m + 15)) := zt_gR rfl
theorem zt_g19 {K : Int64 → Prop} : zgL (zt_S σ m N M) (some m) 4 19 K ↔ K (M.2.1 19) := zt_gL rfl
theorem zt_p19 {x : Int64} {K : zS → Prop} (hz : z0 ≤ m) : zput (zt_S σ m N M) z0 (some m) 4 19 (.long x) K ↔ K (zt_S σ m N (M.sL 19 x)) := zt_put (M := M) (M' := M.sL 19 x) (k := 19) (by omega) rfl (zt_c0 rfl) hz
theorem zt_g20 {K : Int64 → Prop} : zgL (zt_S σ m N M) (some m) 4 20 K ↔ K (M.2.1 20) := zt_gL rfl
theorem zt_p20 {x : Int64} {K : zS → Prop} (hz : z0 ≤ m) : zput (zt_S σ m N M) z0 (some m) 4 20 (.long x) K ↔ K (zt_S σ m N (M.sL 20 x)) := zt_put (M := M) (M' := M.sL 20 x) (k := 20) (by omega) rfl (zt_c0 rfl) hz
theorem zt_g21 {K : Int32 → Prop} : zgI (zt_S σ m N M) (some m) 4 21 K ↔ K (M.1 21) := zt_gI rfl
theorem zt_p21 {x : Int32} {K : zS → Prop} (hz : z0 ≤ m) : zput (zt_S σ m N M) z0 (some m) 4 21 (.int x) K ↔ K (zt_S σ m N (M.sI 21 x)) := zt_put (M := M) (M' := M.sI 21 x) (k := 21) (by omega) rfl (zt_c0 rfl) hz
theorem zt_g22 {K : Int32 → Prop} : zgI (zt_S σ m N M) (some m) 4 22 K ↔ K (M.1 22) := zt_gI rfl
theorem zt_p22 {x : Int32} {K : zS → Prop} (hz : z0 ≤ m) : zput (zt_S σ m N M) z0 (some m) 4 22 (.int x) K ↔ K (zt_S σ m N (M.sI 22 x)) := zt_put (M := M) (M' := M.sI 22 x) (k := 22) (by omega) rfl (zt_c0 rfl) hz
theorem zt_g23 {K : Int32 → Prop} : zgI (zt_S σ m N M) (some m) 4 23 K ↔ K (M.1 23) := zt_gI rfl
theorem zt_p23 {x : Int32} {K : zS → Prop} (hz : z0 ≤ m) : zput (zt_S σ m N M) z0 (some m) 4 23 (.int x) K ↔ K (zt_S σ m N (M.sI 23 x)) := zt_put (M := M) (M' := M.sI 23 x) (k := 23) (by omega) rfl (zt_c0 rfl) hz
theorem zt_g24 {K : Option Nat → Prop} : zgR (zt_S σ m N M) (some m) 4 24 K ↔ K (some (m + 16)) := zt_gR rfl
theorem zt_g25 {K : Option Nat → Prop} : zgR (zt_S σ m N M) (some m) 4 25 K ↔ K (some (m + 17)) := zt_gR rfl
theorem zt_g26 {K : Int32 → Prop} : zgI (zt_S σ m N M) (some m) 4 26 K ↔ K (M.1 26) := zt_gI rfl
theorem zt_p26 {x : Int32} {K : zS → Prop} (hz : z0 ≤ m) : zput (zt_S σ m N M) z0 (some m) 4 26 (.int x) K ↔ K (zt_S σ m N (M.sI 26 x)) := zt_put (M := M) (M' := M.sI 26 x) (k := 26) (by omega) rfl (zt_c0 rfl) hz
theorem zt_g27 {K : Option Nat → Prop} : zgR (zt_S σ m N M) (some m) 4 27 K ↔ K (some (m + 18)) := zt_gR rfl
theorem zt_g28 {K : Int32 → Prop} : zgI (zt_S σ m N M) (some m) 4 28 K ↔ K (M.1 28) := zt_gI rfl
theorem zt_p28 {x : Int32} {K : zS → Prop} (hz : z0 ≤ m) : zput (zt_S σ m N M) z0 (some m) 4 28 (.int x) K ↔ K (zt_S σ m N (M.sI 28 x)) := zt_put (M := M) (M' := M.sI 28 x) (k := 28) (by omega) rfl (zt_c0 rfl) hz
theorem zt_g29 {K : Int32 → Prop} : zgI (zt_S σ m N M) (some m) 4 29 K ↔ K (M.1 29) := zt_gI rfl
theorem zt_p29 {x : Int32} {K : zS → Prop} (hz : z0 ≤ m) : zput (zt_S σ m N M) z0 (some m) 4 29 (.int x) K ↔ K (zt_S σ m N (M.sI 29 x)) := zt_put (M := M) (M' := M.sI 29 x) (k := 29) (by omega) rfl (zt_c0 rfl) hz
theorem zt_g30 {K : Int32 → Prop} : zgI (zt_S σ m N M) (some m) 4 30 K ↔ K (M.1 30) := zt_gI rfl
theorem zt_p30 {x : Int32} {K : zS → Prop} (hz : z0 ≤ m) : zput (zt_S σ m N M) z0 (some m) 4 30 (.int x) K ↔ K (zt_S σ m N (M.sI 30 x)) := zt_put (M := M) (M' := M.sI 30 x) (k := 30) (by omega) rfl (zt_c0 rfl) hz
theorem zt_g31 {K : Int32 → Prop} : zgI (zt_S σ m N M) (some m) 4 31 K ↔ K (M.1 31) := zt_gI rfl
theorem zt_p31 {x : Int32} {K : zS → Prop} (hz : z0 ≤ m) : zput (zt_S σ m N M) z0 (some m) 4 31 (.int x) K ↔ K (zt_S σ m N (M.sI 31 x)) := zt_put (M := M) (M' := M.sI 31 x) (k := 31) (by omega) rfl (zt_c0 rfl) hz
theorem zt_g32 {K : Int32 → Prop} : zgI (zt_S σ m N M) (some m) 4 32 K ↔ K (M.1 32) := zt_gI rfl
theorem zt_p32 {x : Int32} {K : zS → Prop} (hz : z0 ≤ m) : zput (zt_S σ m N M) z0 (some m) 4 32 (.int x) K ↔ K (zt_S σ m N (M.sI 32 x)) := zt_put (M := M) (M' := M.sI 32 x) (k := 32) (by omega) rfl (zt_c0 rfl) hz
theorem zt_g33 {K : Int32 → Prop} : zgI (zt_S σ m N M) (some m) 4 33 K ↔ K (M.1 33) := zt_gI rfl
theorem zt_p33 {x : Int32} {K : zS → Prop} (hz : z0 ≤ m) : zput (zt_S σ m N M) z0 (some m) 4 33 (.int x) K ↔ K (zt_S σ m N (M.sI 33 x)) := zt_put (M := M) (M' := M.sI 33 x) (k := 33) (by omega) rfl (zt_c0 rfl) hz
theorem zt_g34 {K : Int32 → Prop} : zgI (zt_S σ m N M) (some m) 4 34 K ↔ K (M.1 34) := zt_gI rfl
theorem zt_p34 {x : Int32} {K : zS → Prop} (hz : z0 ≤ m) : zput (zt_S σ m N M) z0 (some m) 4 34 (.int x) K ↔ K (zt_S σ m N (M.sI 34 x)) := zt_put (M := M) (M' := M.sI 34 x) (k := 34) (by omega) rfl (zt_c0 rfl) hz
theorem zt_g35 {K : Int32 → Prop} : zgI (zt_S σ m N M) (some m) 4 35 K ↔ K (M.1 35) := zt_gI rfl
theorem zt_p35 {x : Int32} {K : zS → Prop} (hz : z0 ≤ m) : zput (zt_S σ m N M) z0 (some m) 4 35 (.int x) K ↔ K (zt_S σ m N (M.sI 35 x)) := zt_put (M := M) (M' := M.sI 35 x) (k := 35) (by omega) rfl (zt_c0 rfl) hz
theorem zt_g36 {K : Int32 → Prop} : zgI (zt_S σ m N M) (some m) 4 36 K ↔ K (M.1 36) := zt_gI rfl
theorem zt_p36 {x : Int32} {K : zS → Prop} (hz : z0 ≤ m) : zput (zt_S σ m N M) z0 (some m) 4 36 (.int x) K ↔ K (zt_S σ m N (M.sI 36 x)) := zt_put (M := M) (M' := M.sI 36 x) (k := 36) (by omega) rfl (zt_c0 rfl) hz
theorem zt_g37 {K : Option Nat → Prop} : zgR (zt_S σ m N M) (some m) 4 37 K ↔ K (some (m + 19)) := zt_gR rfl
theorem zt_g38 {K : Option Nat → Prop} : zgR (zt_S σ m N M) (some m) 4 38 K ↔ K (some (m + 20)) := zt_gR rfl
theorem zt_g39 {K : Option Nat → Prop} : zgR (zt_S σ m N M) (some m) 4 39 K ↔ K (some (m + 21)) := zt_gR rfl
theorem zt_g40 {K : Int32 → Prop} : zgI (zt_S σ m N M) (some m) 4 40 K ↔ K (M.1 40) := zt_gI rfl
theorem zt_p40 {x : Int32} {K : zS → Prop} (hz : z0 ≤ m) : zput (zt_S σ m N M) z0 (some m) 4 40 (.int x) K ↔ K (zt_S σ m N (M.sI 40 x)) := zt_put (M := M) (M' := M.sI 40 x) (k := 40) (by omega) rfl (zt_c0 rfl) hz
theorem zt_a1 {i : Int32} {K : Int32 → Prop} : zaI (zt_S σ m N M) 0 (some (m + 1)) i K ↔ vp_in i 61 ∧ K (M.2.2.1 1 i.toNatClampNeg) := zt_aI (j := 1) (by omega) rfl
theorem zt_s1 {i x : Int32} {K : zS → Prop} (hz : z0 ≤ m) : zsI (zt_S σ m N M) z0 0 (some (m + 1)) i x K ↔ vp_in i 61 ∧ K (zt_S σ m N (M.sA 1 (va_up (M.2.2.1 1) i.toNatClampNeg x))) := zt_sI (j := 1) (M := M) (M' := M.sA 1 (va_up (M.2.2.1 1) i.toNatClampNeg x)) (by omega) rfl rfl (zt_cA (by omega)) hz
theorem zt_l1 {K : Int32 → Prop} : zln (zt_S σ m N M) 0 (some (m + 1)) K ↔ K (nI 61) := zt_ln (j := 1) (by omega) rfl
theorem zt_a2 {i : Int32} {K : Int32 → Prop} : zaI (zt_S σ m N M) 0 (some (m + 2)) i K ↔ vp_in i 61 ∧ K (M.2.2.1 2 i.toNatClampNeg) := zt_aI (j := 2) (by omega) rfl
theorem zt_s2 {i x : Int32} {K : zS → Prop} (hz : z0 ≤ m) : zsI (zt_S σ m N M) z0 0 (some (m + 2)) i x K ↔ vp_in i 61 ∧ K (zt_S σ m N (M.sA 2 (va_up (M.2.2.1 2) i.toNatClampNeg x))) := zt_sI (j := 2) (M := M) (M' := M.sA 2 (va_up (M.2.2.1 2) i.toNatClampNeg x)) (by omega) rfl rfl (zt_cA (by omega)) hz
theorem zt_l2 {K : Int32 → Prop} : zln (zt_S σ m N M) 0 (some (m + 2)) K ↔ K (nI 61) := zt_ln (j := 2) (by omega) rfl
theorem zt_a3 {i : Int32} {K : Int32 → Prop} : zaI (zt_S σ m N M) 0 (some (m + 3)) i K ↔ vp_in i 61 ∧ K (M.2.2.1 3 i.toNatClampNeg) := zt_aI (j := 3) (by omega) rfl
theorem zt_s3 {i x : Int32} {K : zS → Prop} (hz : z0 ≤ m) : zsI (zt_S σ m N M) z0 0 (some (m + 3)) i x K ↔ vp_in i 61 ∧ K (zt_S σ m N (M.sA 3 (va_up (M.2.2.1 3) i.toNatClampNeg x))) := zt_sI (j := 3) (M := M) (M' := M.sA 3 (va_up (M.2.2.1 3) i.toNatClampNeg x)) (by omega) rfl rfl (zt_cA (by omega)) hz
theorem zt_l3 {K : Int32 → Prop} : zln (zt_S σ m N M) 0 (some (m + 3)) K ↔ K (nI 61) := zt_ln (j := 3) (by omega) rfl
theorem zt_a4 {i : Int32} {K : Int32 → Prop} : zaI (zt_S σ m N M) 0 (some (m + 4)) i K ↔ vp_in i 610 ∧ K (M.2.2.1 4 i.toNatClampNeg) := zt_aI (j := 4) (by omega) rfl
theorem zt_s4 {i x : Int32} {K : zS → Prop} (hz : z0 ≤ m) : zsI (zt_S σ m N M) z0 0 (some (m + 4)) i x K ↔ vp_in i 610 ∧ K (zt_S σ m N (M.sA 4 (va_up (M.2.2.1 4) i.toNatClampNeg x))) := zt_sI (j := 4) (M := M) (M' := M.sA 4 (va_up (M.2.2.1 4) i.toNatClampNeg x)) (by omega) rfl rfl (zt_cA (by omega)) hz
theorem zt_l4 {K : Int32 → Prop} : zln (zt_S σ m N M) 0 (some (m + 4)) K ↔ K (nI 610) := zt_ln (j := 4) (by omega) rfl
theorem zt_a5 {i : Int32} {K : Int32 → Prop} : zaI (zt_S σ m N M) 0 (some (m + 5)) i K ↔ vp_in i 1024 ∧ K (M.2.2.1 5 i.toNatClampNeg) := zt_aI (j := 5) (by omega) rfl
theorem zt_s5 {i x : Int32} {K : zS → Prop} (hz : z0 ≤ m) : zsI (zt_S σ m N M) z0 0 (some (m + 5)) i x K ↔ vp_in i 1024 ∧ K (zt_S σ m N (M.sA 5 (va_up (M.2.2.1 5) i.toNatClampNeg x))) := zt_sI (j := 5) (M := M) (M' := M.sA 5 (va_up (M.2.2.1 5) i.toNatClampNeg x)) (by omega) rfl rfl (zt_cA (by omega)) hz
theorem zt_l5 {K : Int32 → Prop} : zln (zt_S σ m N M) 0 (some (m + 5)) K ↔ K (nI 1024) := zt_ln (j := 5) (by omega) rfl
theorem zt_a6 {i : Int32} {K : Int32 → Prop} : zaI (zt_S σ m N M) 0 (some (m + 6)) i K ↔ vp_in i 1024 ∧ K (M.2.2.1 6 i.toNatClampNeg) := zt_aI (j := 6) (by omega) rfl
theorem zt_s6 {i x : Int32} {K : zS → Prop} (hz : z0 ≤ m) : zsI (zt_S σ m N M) z0 0 (some (m + 6)) i x K ↔ vp_in i 1024 ∧ K (zt_S σ m N (M.sA 6 (va_up (M.2.2.1 6) i.toNatClampNeg x))) := zt_sI (j := 6) (M := M) (M' := M.sA 6 (va_up (M.2.2.1 6) i.toNatClampNeg x)) (by omega) rfl rfl (zt_cA (by omega)) hz
theorem zt_l6 {K : Int32 → Prop} : zln (zt_S σ m N M) 0 (some (m + 6)) K ↔ K (nI 1024) := zt_ln (j := 6) (by omega) rfl
theorem zt_a7 {i : Int32} {K : Int32 → Prop} : zaI (zt_S σ m N M) 0 (some (m + 7)) i K ↔ vp_in i 1024 ∧ K (M.2.2.1 7 i.toNatClampNeg) := zt_aI (j := 7) (by omega) rfl
theorem zt_s7 {i x : Int32} {K : zS → Prop} (hz : z0 ≤ m) : zsI (zt_S σ m N M) z0 0 (some (m + 7)) i x K ↔ vp_in i 1024 ∧ K (zt_S σ m N (M.sA 7 (va_up (M.2.2.1 7) i.toNatClampNeg x))) := zt_sI (j := 7) (M := M) (M' := M.sA 7 (va_up (M.2.2.1 7) i.toNatClampNeg x)) (by omega) rfl rfl (zt_cA (by omega)) hz
theorem zt_l7 {K : Int32 → Prop} : zln (zt_S σ m N M) 0 (some (m + 7)) K ↔ K (nI 1024) := zt_ln (j := 7) (by omega) rfl
theorem zt_a8 {i : Int32} {K : Int32 → Prop} : zaI (zt_S σ m N M) 0 (some (m + 8)) i K ↔ vp_in i 1024 ∧ K (M.2.2.1 8 i.toNatClampNeg) := zt_aI (j := 8) (by omega) rfl
theorem zt_s8 {i x : Int32} {K : zS → Prop} (hz : z0 ≤ m) : zsI (zt_S σ m N M) z0 0 (some (m + 8)) i x K ↔ vp_in i 1024 ∧ K (zt_S σ m N (M.sA 8 (va_up (M.2.2.1 8) i.toNatClampNeg x))) := zt_sI (j := 8) (M := M) (M' := M.sA 8 (va_up (M.2.2.1 8) i.toNatClampNeg x)) (by omega) rfl rfl (zt_cA (by omega)) hz
theorem zt_l8 {K : Int32 → Prop} : zln (zt_S σ m N M) 0 (some (m + 8)) K ↔ K (nI 1024) := zt_ln (j := 8) (by omega) rfl
theorem zt_a9 {i : Int32} {K : Int32 → Prop} : zaI (zt_S σ m N M) 0 (some (m + 9)) i K ↔ vp_in i 1024 ∧ K (M.2.2.1 9 i.toNatClampNeg) := zt_aI (j := 9) (by omega) rfl
theorem zt_s9 {i x : Int32} {K : zS → Prop} (hz : z0 ≤ m) : zsI (zt_S σ m N M) z0 0 (some (m + 9)) i x K ↔ vp_in i 1024 ∧ K (zt_S σ m N (M.sA 9 (va_up (M.2.2.1 9) i.toNatClampNeg x))) := zt_sI (j := 9) (M := M) (M' := M.sA 9 (va_up (M.2.2.1 9) i.toNatClampNeg x)) (by omega) rfl rfl (zt_cA (by omega)) hz
theorem zt_l9 {K : Int32 → Prop} : zln (zt_S σ m N M) 0 (some (m + 9)) K ↔ K (nI 1024) := zt_ln (j := 9) (by omega) rfl
theorem zt_a10 {i : Int32} {K : Int32 → Prop} : zaI (zt_S σ m N M) 0 (some (m + 10)) i K ↔ vp_in i 25 ∧ K (M.2.2.1 10 i.toNatClampNeg) := zt_aI (j := 10) (by omega) rfl
theorem zt_s10 {i x : Int32} {K : zS → Prop} (hz : z0 ≤ m) : zsI (zt_S σ m N M) z0 0 (some (m + 10)) i x K ↔ vp_in i 25 ∧ K (zt_S σ m N (M.sA 10 (va_up (M.2.2.1 10) i.toNatClampNeg x))) := zt_sI (j := 10) (M := M) (M' := M.sA 10 (va_up (M.2.2.1 10) i.toNatClampNeg x)) (by omega) rfl rfl (zt_cA (by omega)) hz
theorem zt_l10 {K : Int32 → Prop} : zln (zt_S σ m N M) 0 (some (m + 10)) K ↔ K (nI 25) := zt_ln (j := 10) (by omega) rfl
theorem zt_a11 {i : Int32} {K : Int32 → Prop} : zaI (zt_S σ m N M) 0 (some (m + 11)) i K ↔ vp_in i 5 ∧ K (M.2.2.1 11 i.toNatClampNeg) := zt_aI (j := 11) (by omega) rfl
theorem zt_s11 {i x : Int32} {K : zS → Prop} (hz : z0 ≤ m) : zsI (zt_S σ m N M) z0 0 (some (m + 11)) i x K ↔ vp_in i 5 ∧ K (zt_S σ m N (M.sA 11 (va_up (M.2.2.1 11) i.toNatClampNeg x))) := zt_sI (j := 11) (M := M) (M' := M.sA 11 (va_up (M.2.2.1 11) i.toNatClampNeg x)) (by omega) rfl rfl (zt_cA (by omega)) hz
theorem zt_l11 {K : Int32 → Prop} : zln (zt_S σ m N M) 0 (some (m + 11)) K ↔ K (nI 5) := zt_ln (j := 11) (by omega) rfl
theorem zt_a12 {i : Int32} {K : Int32 → Prop} : zaI (zt_S σ m N M) 0 (some (m + 12)) i K ↔ vp_in i 5 ∧ K (M.2.2.1 12 i.toNatClampNeg) := zt_aI (j := 12) (by omega) rfl
theorem zt_s12 {i x : Int32} {K : zS → Prop} (hz : z0 ≤ m) : zsI (zt_S σ m N M) z0 0 (some (m + 12)) i x K ↔ vp_in i 5 ∧ K (zt_S σ m N (M.sA 12 (va_up (M.2.2.1 12) i.toNatClampNeg x))) := zt_sI (j := 12) (M := M) (M' := M.sA 12 (va_up (M.2.2.1 12) i.toNatClampNeg x)) (by omega) rfl rfl (zt_cA (by omega)) hz
theorem zt_l12 {K : Int32 → Prop} : zln (zt_S σ m N M) 0 (some (m + 12)) K ↔ K (nI 5) := zt_ln (j := 12) (by omega) rfl
theorem zt_a13 {i : Int32} {K : Int64 → Prop} : zaL (zt_S σ m N M) (some (m + 13)) i K ↔ vp_in i 125 ∧ K (M.2.2.2 13 i.toNatClampNeg) := zt_aL (j := 13) (by omega) rfl
theorem zt_s13 {i : Int32} {x : Int64} {K : zS → Prop} (hz : z0 ≤ m) : zsL (zt_S σ m N M) z0 (some (m + 13)) i x K ↔ vp_in i 125 ∧ K (zt_S σ m N (M.sB 13 (va_up (M.2.2.2 13) i.toNatClampNeg x))) := zt_sL (j := 13) (M := M) (M' := M.sB 13 (va_up (M.2.2.2 13) i.toNatClampNeg x)) (by omega) rfl rfl (zt_cB (by omega)) hz
theorem zt_l13 {K : Int32 → Prop} : zln (zt_S σ m N M) 1 (some (m + 13)) K ↔ K (nI 125) := zt_ln (j := 13) (by omega) rfl
theorem zt_a14 {i : Int32} {K : Int64 → Prop} : zaL (zt_S σ m N M) (some (m + 14)) i K ↔ vp_in i 5 ∧ K (M.2.2.2 14 i.toNatClampNeg) := zt_aL (j := 14) (by omega) rfl
theorem zt_s14 {i : Int32} {x : Int64} {K : zS → Prop} (hz : z0 ≤ m) : zsL (zt_S σ m N M) z0 (some (m + 14)) i x K ↔ vp_in i 5 ∧ K (zt_S σ m N (M.sB 14 (va_up (M.2.2.2 14) i.toNatClampNeg x))) := zt_sL (j := 14) (M := M) (M' := M.sB 14 (va_up (M.2.2.2 14) i.toNatClampNeg x)) (by omega) rfl rfl (zt_cB (by omega)) hz
theorem zt_l14 {K : Int32 → Prop} : zln (zt_S σ m N M) 1 (some (m + 14)) K ↔ K (nI 5) := zt_ln (j := 14) (by omega) rfl
theorem zt_a15 {i : Int32} {K : Int64 → Prop} : zaL (zt_S σ m N M) (some (m + 15)) i K ↔ vp_in i 5 ∧ K (M.2.2.2 15 i.toNatClampNeg) := zt_aL (j := 15) (by omega) rfl
theorem zt_s15 {i : Int32} {x : Int64} {K : zS → Prop} (hz : z0 ≤ m) : zsL (zt_S σ m N M) z0 (some (m + 15)) i x K ↔ vp_in i 5 ∧ K (zt_S σ m N (M.sB 15 (va_up (M.2.2.2 15) i.toNatClampNeg x))) := zt_sL (j := 15) (M := M) (M' := M.sB 15 (va_up (M.2.2.2 15) i.toNatClampNeg x)) (by omega) rfl rfl (zt_cB (by omega)) hz
theorem zt_l15 {K : Int32 → Prop} : zln (zt_S σ m N M) 1 (some (m + 15)) K ↔ K (nI 5) := zt_ln (j := 15) (by omega) rfl
theorem zt_a16 {i : Int32} {K : Int32 → Prop} : zaI (zt_S σ m N M) 0 (some (m + 16)) i K ↔ vp_in i 4096 ∧ K (M.2.2.1 16 i.toNatClampNeg) := zt_aI (j := 16) (by omega) rfl
theorem zt_s16 {i x : Int32} {K : zS → Prop} (hz : z0 ≤ m) : zsI (zt_S σ m N M) z0 0 (some (m + 16)) i x K ↔ vp_in i 4096 ∧ K (zt_S σ m N (M.sA 16 (va_up (M.2.2.1 16) i.toNatClampNeg x))) := zt_sI (j := 16) (M := M) (M' := M.sA 16 (va_up (M.2.2.1 16) i.toNatClampNeg x)) (by omega) rfl rfl (zt_cA (by omega)) hz
theorem zt_l16 {K : Int32 → Prop} : zln (zt_S σ m N M) 0 (some (m + 16)) K ↔ K (nI 4096) := zt_ln (j := 16) (by omega) rfl
theorem zt_a17 {i : Int32} {K : Int32 → Prop} : zaI (zt_S σ m N M) 0 (some (m + 17)) i K ↔ vp_in i 20 ∧ K (M.2.2.1 17 i.toNatClampNeg) := zt_aI (j := 17) (by omega) rfl
theorem zt_s17 {i x : Int32} {K : zS → Prop} (hz : z0 ≤ m) : zsI (zt_S σ m N M) z0 0 (some (m + 17)) i x K ↔ vp_in i 20 ∧ K (zt_S σ m N (M.sA 17 (va_up (M.2.2.1 17) i.toNatClampNeg x))) := zt_sI (j := 17) (M := M) (M' := M.sA 17 (va_up (M.2.2.1 17) i.toNatClampNeg x)) (by omega) rfl rfl (zt_cA (by omega)) hz
theorem zt_l17 {K : Int32 → Prop} : zln (zt_S σ m N M) 0 (some (m + 17)) K ↔ K (nI 20) := zt_ln (j := 17) (by omega) rfl
theorem zt_a18 {i : Int32} {K : Int32 → Prop} : zaI (zt_S σ m N M) 0 (some (m + 18)) i K ↔ vp_in i 500 ∧ K (M.2.2.1 18 i.toNatClampNeg) := zt_aI (j := 18) (by omega) rfl
theorem zt_s18 {i x : Int32} {K : zS → Prop} (hz : z0 ≤ m) : zsI (zt_S σ m N M) z0 0 (some (m + 18)) i x K ↔ vp_in i 500 ∧ K (zt_S σ m N (M.sA 18 (va_up (M.2.2.1 18) i.toNatClampNeg x))) := zt_sI (j := 18) (M := M) (M' := M.sA 18 (va_up (M.2.2.1 18) i.toNatClampNeg x)) (by omega) rfl rfl (zt_cA (by omega)) hz
theorem zt_l18 {K : Int32 → Prop} : zln (zt_S σ m N M) 0 (some (m + 18)) K ↔ K (nI 500) := zt_ln (j := 18) (by omega) rfl
theorem zt_a19 {i : Int32} {K : Option Nat → Prop} : zaR (zt_S σ m N M) 8 (some (m + 19)) i K ↔ vp_in i 9 ∧ K (N i.toNatClampNeg) := zt_aR (j := 19) (by omega) rfl
theorem zt_l19 {K : Int32 → Prop} : zln (zt_S σ m N M) 8 (some (m + 19)) K ↔ K (nI 9) := zt_ln (j := 19) (by omega) rfl
theorem zt_a20 {i : Int32} {K : Int32 → Prop} : zaI (zt_S σ m N M) 0 (some (m + 20)) i K ↔ vp_in i 200 ∧ K (M.2.2.1 20 i.toNatClampNeg) := zt_aI (j := 20) (by omega) rfl
theorem zt_s20 {i x : Int32} {K : zS → Prop} (hz : z0 ≤ m) : zsI (zt_S σ m N M) z0 0 (some (m + 20)) i x K ↔ vp_in i 200 ∧ K (zt_S σ m N (M.sA 20 (va_up (M.2.2.1 20) i.toNatClampNeg x))) := zt_sI (j := 20) (M := M) (M' := M.sA 20 (va_up (M.2.2.1 20) i.toNatClampNeg x)) (by omega) rfl rfl (zt_cA (by omega)) hz
theorem zt_l20 {K : Int32 → Prop} : zln (zt_S σ m N M) 0 (some (m + 20)) K ↔ K (nI 200) := zt_ln (j := 20) (by omega) rfl
theorem zt_a21 {i : Int32} {K : Int64 → Prop} : zaL (zt_S σ m N M) (some (m + 21)) i K ↔ vp_in i 200 ∧ K (M.2.2.2 21 i.toNatClampNeg) := zt_aL (j := 21) (by omega) rfl
theorem zt_s21 {i : Int32} {x : Int64} {K : zS → Prop} (hz : z0 ≤ m) : zsL (zt_S σ m N M) z0 (some (m + 21)) i x K ↔ vp_in i 200 ∧ K (zt_S σ m N (M.sB 21 (va_up (M.2.2.2 21) i.toNatClampNeg x))) := zt_sL (j := 21) (M := M) (M' := M.sB 21 (va_up (M.2.2.2 21) i.toNatClampNeg x)) (by omega) rfl rfl (zt_cB (by omega)) hz
theorem zt_l21 {K : Int32 → Prop} : zln (zt_S σ m N M) 1 (some (m + 21)) K ↔ K (nI 200) := zt_ln (j := 21) (by omega) rfl
end ZTW
