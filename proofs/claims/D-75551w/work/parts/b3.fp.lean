/-! QUOTIENTS OF SMALL INTS ARE NUMBERS -/
theorem zf_mod {x E e T t : Nat} (hT : 0 < T) (ht : t < T) (he : e < E) : ((x * E + e) * T + t) % T = t ∧ ((x * E + e) * T + t) / T % E = e := by
  refine ⟨?_, ?_⟩
  · rw [Nat.add_comm, Nat.add_mul_mod_self_right, Nat.mod_eq_of_lt ht]
  · rw [Nat.add_comm, Nat.add_mul_div_right _ _ hT, Nat.div_eq_of_lt ht, Nat.zero_add, Nat.add_comm, Nat.add_mul_mod_self_right, Nat.mod_eq_of_lt he]
theorem zf_dec {f : Jvm.FP.Core.Fmt} {T E : Nat} (hT : f.tails = T) (hE : f.exps = E) (hT0 : 0 < T) {s : Bool} {e t : Nat} (he : e + 1 < E) (ht : t < T) : ∃ s' c' q', Jvm.FP.Core.decode f (Jvm.FP.Core.assemble f s e t) = .fin s' c' q' ∧ (t ≠ 0 ∨ e ≠ 0 → c' ≠ 0) := by
  have h1 : Jvm.FP.Core.assemble f s e t = (s.toNat * E + e) * T + t := by unfold Jvm.FP.Core.assemble; rw [hT, hE]
  obtain ⟨m1, m2⟩ := zf_mod (x := s.toNat) (E := E) hT0 ht (show e < E by omega)
  have hFT : Jvm.FP.Core.fieldT f (Jvm.FP.Core.assemble f s e t) = t := by unfold Jvm.FP.Core.fieldT; rw [h1, hT]; exact m1
  have hFE : Jvm.FP.Core.fieldE f (Jvm.FP.Core.assemble f s e t) = e := by unfold Jvm.FP.Core.fieldE; rw [h1, hT, hE]; exact m2
  unfold Jvm.FP.Core.decode
  rw [hFE, hFT, hE, if_neg (by omega)]
  by_cases h0 : e = 0
  · rw [if_pos h0]
    exact ⟨_, _, _, rfl, fun h => h.elim id fun h => absurd h0 h⟩
  · rw [if_neg h0]
    exact ⟨_, _, _, rfl, fun _ => by rw [hT]; omega⟩
/-- a datum that is no NaN and not too great -/
def zf_g (f : Jvm.FP.Core.Fmt) : Jvm.FP.Core.Datum → Prop
  | .nan => False
  | .inf _ => True
  | .fin _ c q => c < 2 ^ f.p ∧ q ≤ f.qmax
theorem zf_rr {f : Jvm.FP.Core.Fmt} (h0 : f.qmin ≤ f.qmax) (hp : f.tails < 2 ^ f.p) (s : Bool) (num den : Nat) (e : Int) : zf_g f (Jvm.FP.Core.roundRatio f s num den e) := by
  have hb : ∀ c q, c < 2 ^ f.p → zf_g f (Jvm.FP.Core.bound f s c q) := fun c q hc => by
    unfold Jvm.FP.Core.bound
    by_cases h : q ≤ f.qmax
    · rw [if_pos h]; exact ⟨hc, h⟩
    · rw [if_neg h]; exact trivial
  unfold Jvm.FP.Core.roundRatio
  by_cases h : num = 0
  · rw [if_pos h]
    exact ⟨Nat.two_pow_pos _, h0⟩
  · rw [if_neg h]
    unfold Jvm.FP.Core.roundAt Jvm.FP.Core.settle
    by_cases h' : Jvm.FP.Core.nearest (Jvm.FP.Core.unitsNum num e (Jvm.FP.Core.quantum f num den e)) (Jvm.FP.Core.unitsDen den e (Jvm.FP.Core.quantum f num den e)) < 2 ^ f.p
    · rw [if_pos h']; exact hb _ _ h'
    · rw [if_neg h']; exact hb _ _ hp
theorem zf_T64 : Jvm.FP.Core.b64.tails = 4503599627370496 := rfl
theorem zf_E64 : Jvm.FP.Core.b64.exps = 2048 := rfl
theorem zf_q64 : Jvm.FP.Core.b64.qmin = -1074 := by decide
theorem zf_x64 : Jvm.FP.Core.b64.qmax = 971 := by decide
theorem zf_p64 : 2 ^ Jvm.FP.Core.b64.p = 9007199254740992 := rfl
theorem zf_T32 : Jvm.FP.Core.b32.tails = 8388608 := rfl
theorem zf_E32 : Jvm.FP.Core.b32.exps = 256 := rfl
theorem zf_q32 : Jvm.FP.Core.b32.qmin = -149 := by decide
theorem zf_x32 : Jvm.FP.Core.b32.qmax = 104 := by decide
theorem zf_p32 : 2 ^ Jvm.FP.Core.b32.p = 16777216 := rfl
theorem zf_as64 {s : Bool} {e t : Nat} (he : e ≤ 2047) (ht : t < 4503599627370496) (h7 : e = 2047 → t = 0) : vf_n64 (UInt64.ofNat (Jvm.FP.Core.assemble Jvm.FP.Core.b64 s e t)) := by
  have hs : s.toNat ≤ 1 := by cases s <;> decide
  have h1 : Jvm.FP.Core.assemble Jvm.FP.Core.b64 s e t = (s.toNat * 2048 + e) * 4503599627370496 + t := by unfold Jvm.FP.Core.assemble; rw [zf_T64, zf_E64]
  unfold vf_n64
  rw [UInt64.le_iff_toNat_le, UInt64.toNat_and, UInt64.toNat_ofNat', h1]
  show _ &&& (2 ^ 63 - 1) ≤ 9218868437227405312
  rw [Nat.and_two_pow_sub_one_eq_mod]
  omega
theorem zf_as32 {s : Bool} {e t : Nat} (he : e ≤ 255) (ht : t < 8388608) (h7 : e = 255 → t = 0) : vf_n32 (UInt32.ofNat (Jvm.FP.Core.assemble Jvm.FP.Core.b32 s e t)) := by
  have hs : s.toNat ≤ 1 := by cases s <;> decide
  have h1 : Jvm.FP.Core.assemble Jvm.FP.Core.b32 s e t = (s.toNat * 256 + e) * 8388608 + t := by unfold Jvm.FP.Core.assemble; rw [zf_T32, zf_E32]
  unfold vf_n32
  rw [UInt32.le_iff_toNat_le, UInt32.toNat_and, UInt32.toNat_ofNat', h1]
  show _ &&& (2 ^ 31 - 1) ≤ 2139095040
  rw [Nat.and_two_pow_sub_one_eq_mod]
  omega
theorem zf_enc (f : Jvm.FP.Core.Fmt) (s : Bool) (c : Nat) (q : Int) : Jvm.FP.Core.encode f (.fin s c q) = if c < f.tails then Jvm.FP.Core.assemble f s 0 c else Jvm.FP.Core.assemble f s ((q - f.qmin).toNat + 1) (c - f.tails) := rfl
theorem zf_n64 {d : Jvm.FP.Core.Datum} (h : zf_g Jvm.FP.Core.b64 d) : vf_n64 (UInt64.ofNat (Jvm.FP.Core.encode Jvm.FP.Core.b64 d)) := by
  cases d with
  | nan => exact h.elim
  | inf s => exact zf_as64 (e := 2047) (t := 0) (by omega) (by omega) (fun _ => rfl)
  | fin s c q =>
    obtain ⟨h1, h2⟩ := h
    rw [zf_p64] at h1
    rw [zf_x64] at h2
    rw [zf_enc, zf_T64]
    by_cases hc : c < 4503599627370496
    · rw [if_pos hc]
      exact zf_as64 (by omega) hc (by omega)
    · rw [if_neg hc, zf_q64]
      exact zf_as64 (by omega) (by omega) (by omega)
theorem zf_n32 {d : Jvm.FP.Core.Datum} (h : zf_g Jvm.FP.Core.b32 d) : vf_n32 (UInt32.ofNat (Jvm.FP.Core.encode Jvm.FP.Core.b32 d)) := by
  cases d with
  | nan => exact h.elim
  | inf s => exact zf_as32 (e := 255) (t := 0) (by omega) (by omega) (fun _ => rfl)
  | fin s c q =>
    obtain ⟨h1, h2⟩ := h
    rw [zf_p32] at h1
    rw [zf_x32] at h2
    rw [zf_enc, zf_T32]
    by_cases hc : c < 8388608
    · rw [if_pos hc]
      exact zf_as32 (by omega) hc (by omega)
    · rw [if_neg hc, zf_q32]
      exact zf_as32 (by omega) (by omega) (by omega)
theorem zf_lead {n k : Nat} (hn : n ≠ 0) (h : n < 2 ^ (k + 1)) : Jvm.FP.Core.leading n 1 ≤ k := by
  have h1 : n.log2 ≤ k := by
    have := (Nat.log2_lt hn).mpr h
    omega
  have h2 : Nat.log2 1 = 0 := by decide
  unfold Jvm.FP.Core.leading
  rw [h2]
  dsimp only
  split <;> omega
/-- what an int becomes -/
theorem zf_of {f : Jvm.FP.Core.Fmt} {k : Nat} (hq : f.qmin < 0) (hk : (k : Int) + 2 ≤ f.p) (hx : 0 ≤ f.qmax) (hp : f.tails < 2 ^ f.p) (hT : 0 < f.tails) {z : Int} (hz : z.natAbs < 2 ^ (k + 1)) : ∃ s c q, Jvm.FP.Core.round f (Jvm.FP.Core.ofInt z) = .fin s c q ∧ c < 2 ^ f.p ∧ q ≤ 0 ∧ f.qmin ≤ q ∧ (z ≠ 0 → c ≠ 0) := by
  show ∃ s c q, Jvm.FP.Core.roundRatio f (decide (z < 0)) z.natAbs 1 0 = .fin s c q ∧ _
  unfold Jvm.FP.Core.roundRatio
  by_cases h0 : z.natAbs = 0
  · rw [if_pos h0]
    exact ⟨_, _, _, rfl, Nat.two_pow_pos _, by omega, by omega, fun h => absurd (by omega) h⟩
  · rw [if_neg h0]
    have hl := zf_lead h0 hz
    have hQ : Jvm.FP.Core.quantum f z.natAbs 1 0 ≤ -1 := by
      unfold Jvm.FP.Core.quantum
      omega
    have hQ2 : f.qmin ≤ Jvm.FP.Core.quantum f z.natAbs 1 0 := by
      unfold Jvm.FP.Core.quantum
      omega
    generalize Jvm.FP.Core.quantum f z.natAbs 1 0 = q at *
    have hU : Jvm.FP.Core.unitsDen 1 0 q = 1 := by
      unfold Jvm.FP.Core.unitsDen
      rw [show (q - 0).toNat = 0 by omega]
    have hN : Jvm.FP.Core.nearest (Jvm.FP.Core.unitsNum z.natAbs 0 q) 1 = Jvm.FP.Core.unitsNum z.natAbs 0 q := by
      unfold Jvm.FP.Core.nearest
      rw [Nat.mod_one, Nat.div_one, if_pos (by omega)]
    have hP : Jvm.FP.Core.unitsNum z.natAbs 0 q ≠ 0 := by
      unfold Jvm.FP.Core.unitsNum
      exact Nat.mul_ne_zero h0 (Nat.pos_iff_ne_zero.mp (Nat.two_pow_pos _))
    unfold Jvm.FP.Core.roundAt Jvm.FP.Core.settle
    rw [hU, hN]
    generalize Jvm.FP.Core.unitsNum z.natAbs 0 q = c at *
    by_cases hc : c < 2 ^ f.p
    · rw [if_pos hc]
      unfold Jvm.FP.Core.bound
      rw [if_pos (by omega)]
      exact ⟨_, _, _, rfl, hc, by omega, hQ2, fun _ => hP⟩
    · rw [if_neg hc]
      unfold Jvm.FP.Core.bound
      rw [if_pos (by omega)]
      exact ⟨_, _, _, rfl, hp, by omega, by omega, fun _ => by omega⟩
theorem zf_i2d {x : Int32} (hx : x.toInt.natAbs < 2097152) : ∃ s c q, Jvm.FP.Core.decode Jvm.FP.Core.b64 (FP.i2d x).toNat = .fin s c q ∧ (x.toInt ≠ 0 → c ≠ 0) := by
  obtain ⟨s, c, q, h1, h2, h3, h4, h5⟩ := zf_of (f := Jvm.FP.Core.b64) (k := 20) (by decide) (by decide) (by decide) (by decide) (by decide) (z := x.toInt) hx
  rw [zf_p64] at h2
  rw [zf_q64] at h4
  have hs : s.toNat ≤ 1 := by cases s <;> decide
  have key : ∀ e t, e ≤ 2046 → t < 4503599627370496 → Jvm.FP.Core.encode Jvm.FP.Core.b64 (.fin s c q) = Jvm.FP.Core.assemble Jvm.FP.Core.b64 s e t → (c ≠ 0 → t ≠ 0 ∨ e ≠ 0) → ∃ s c q, Jvm.FP.Core.decode Jvm.FP.Core.b64 (FP.i2d x).toNat = .fin s c q ∧ (x.toInt ≠ 0 → c ≠ 0) := by
    intro e t he ht hE hn
    have e1 : (FP.i2d x).toNat = Jvm.FP.Core.assemble Jvm.FP.Core.b64 s e t := by
      show (UInt64.ofNat (Jvm.FP.Core.encode Jvm.FP.Core.b64 (Jvm.FP.Core.round Jvm.FP.Core.b64 (Jvm.FP.Core.ofInt x.toInt)))).toNat = _
      rw [h1, hE, UInt64.toNat_ofNat']
      have h9 : Jvm.FP.Core.assemble Jvm.FP.Core.b64 s e t = (s.toNat * 2048 + e) * 4503599627370496 + t := by unfold Jvm.FP.Core.assemble; rw [zf_T64, zf_E64]
      rw [h9]
      omega
    obtain ⟨s', c', q', g1, g2⟩ := zf_dec (f := Jvm.FP.Core.b64) zf_T64 zf_E64 (by omega) (s := s) (e := e) (t := t) (by omega) ht
    exact ⟨s', c', q', by rw [e1]; exact g1, fun h => g2 (hn (h5 h))⟩
  by_cases hc : c < 4503599627370496
  · exact key 0 c (by omega) hc (by rw [zf_enc, zf_T64, if_pos hc]) (fun h => Or.inl h)
  · exact key ((q + 1074).toNat + 1) (c - 4503599627370496) (by omega) (by omega) (by
      rw [zf_enc, zf_T64, if_neg hc, zf_q64]
      rfl) (fun _ => Or.inr (by omega))
theorem zf_i2f {x : Int32} (hx : x.toInt.natAbs < 2048) : ∃ s c q, Jvm.FP.Core.decode Jvm.FP.Core.b32 (FP.i2f x).toNat = .fin s c q ∧ (x.toInt ≠ 0 → c ≠ 0) := by
  obtain ⟨s, c, q, h1, h2, h3, h4, h5⟩ := zf_of (f := Jvm.FP.Core.b32) (k := 10) (by decide) (by decide) (by decide) (by decide) (by decide) (z := x.toInt) hx
  rw [zf_p32] at h2
  rw [zf_q32] at h4
  have hs : s.toNat ≤ 1 := by cases s <;> decide
  have key : ∀ e t, e ≤ 254 → t < 8388608 → Jvm.FP.Core.encode Jvm.FP.Core.b32 (.fin s c q) = Jvm.FP.Core.assemble Jvm.FP.Core.b32 s e t → (c ≠ 0 → t ≠ 0 ∨ e ≠ 0) → ∃ s c q, Jvm.FP.Core.decode Jvm.FP.Core.b32 (FP.i2f x).toNat = .fin s c q ∧ (x.toInt ≠ 0 → c ≠ 0) := by
    intro e t he ht hE hn
    have e1 : (FP.i2f x).toNat = Jvm.FP.Core.assemble Jvm.FP.Core.b32 s e t := by
      show (UInt32.ofNat (Jvm.FP.Core.encode Jvm.FP.Core.b32 (Jvm.FP.Core.round Jvm.FP.Core.b32 (Jvm.FP.Core.ofInt x.toInt)))).toNat = _
      rw [h1, hE, UInt32.toNat_ofNat']
      have h9 : Jvm.FP.Core.assemble Jvm.FP.Core.b32 s e t = (s.toNat * 256 + e) * 8388608 + t := by unfold Jvm.FP.Core.assemble; rw [zf_T32, zf_E32]
      rw [h9]
      omega
    obtain ⟨s', c', q', g1, g2⟩ := zf_dec (f := Jvm.FP.Core.b32) zf_T32 zf_E32 (by omega) (s := s) (e := e) (t := t) (by omega) ht
    exact ⟨s', c', q', by rw [e1]; exact g1, fun h => g2 (hn (h5 h))⟩
  by_cases hc : c < 8388608
  · exact key 0 c (by omega) hc (by rw [zf_enc, zf_T32, if_pos hc]) (fun h => Or.inl h)
  · exact key ((q + 149).toNat + 1) (c - 8388608) (by omega) (by omega) (by
      rw [zf_enc, zf_T32, if_neg hc, zf_q32]
      rfl) (fun _ => Or.inr (by omega))
theorem zf_ddiv {x y : Int32} (hx : x.toInt.natAbs < 2097152) (hy : y.toInt.natAbs < 2097152) (hy0 : y.toInt ≠ 0) : vf_n64 (FP.ddiv (FP.i2d x) (FP.i2d y)) := by
  obtain ⟨s, c, q, h1, _⟩ := zf_i2d hx
  obtain ⟨t, d, r, h2, h3⟩ := zf_i2d hy
  show vf_n64 (UInt64.ofNat (Jvm.FP.Core.encode Jvm.FP.Core.b64 (Jvm.FP.Core.quotient Jvm.FP.Core.b64 (Jvm.FP.Core.decode Jvm.FP.Core.b64 (FP.i2d x).toNat) (Jvm.FP.Core.decode Jvm.FP.Core.b64 (FP.i2d y).toNat))))
  rw [h1, h2]
  refine zf_n64 ?_
  show zf_g Jvm.FP.Core.b64 (if d = 0 then (if c = 0 then .nan else .inf (s != t)) else Jvm.FP.Core.roundRatio Jvm.FP.Core.b64 (s != t) c d (q - r))
  rw [if_neg (h3 hy0)]
  exact zf_rr (by decide) (by decide) _ _ _ _
theorem zf_fdiv {x y : Int32} (hx : x.toInt.natAbs < 2048) (hy : y.toInt.natAbs < 2048) (hy0 : y.toInt ≠ 0) : vf_n32 (FP.fdiv (FP.i2f x) (FP.i2f y)) := by
  obtain ⟨s, c, q, h1, _⟩ := zf_i2f hx
  obtain ⟨t, d, r, h2, h3⟩ := zf_i2f hy
  show vf_n32 (UInt32.ofNat (Jvm.FP.Core.encode Jvm.FP.Core.b32 (Jvm.FP.Core.quotient Jvm.FP.Core.b32 (Jvm.FP.Core.decode Jvm.FP.Core.b32 (FP.i2f x).toNat) (Jvm.FP.Core.decode Jvm.FP.Core.b32 (FP.i2f y).toNat))))
  rw [h1, h2]
  refine zf_n32 ?_
  show zf_g Jvm.FP.Core.b32 (if d = 0 then (if c = 0 then .nan else .inf (s != t)) else Jvm.FP.Core.roundRatio Jvm.FP.Core.b32 (s != t) c d (q - r))
  rw [if_neg (h3 hy0)]
  exact zf_rr (by decide) (by decide) _ _ _ _
/-- a float that is no NaN, as a double -/
theorem zf_f2d {x : UInt32} (hx : vf_n32 x) : vf_n64 (FP.f2d x) := by
  have hn : Jvm.FP.Core.decode Jvm.FP.Core.b32 x.toNat ≠ .nan := by
    unfold vf_n32 at hx
    rw [UInt32.le_iff_toNat_le, UInt32.toNat_and] at hx
    have hx : x.toNat &&& (2 ^ 31 - 1) ≤ 2139095040 := hx
    rw [Nat.and_two_pow_sub_one_eq_mod] at hx
    have hlt := x.toNat_lt
    unfold Jvm.FP.Core.decode Jvm.FP.Core.fieldE Jvm.FP.Core.fieldT
    rw [zf_T32, zf_E32]
    by_cases h1 : x.toNat / 8388608 % 256 = 256 - 1
    · rw [if_pos h1, if_pos (by omega)]
      exact fun e => by cases e
    · rw [if_neg h1]
      by_cases h2 : x.toNat / 8388608 % 256 = 0
      · rw [if_pos h2]
        exact fun e => by cases e
      · rw [if_neg h2]
        exact fun e => by cases e
  have hN : Jvm.FP.Core.fIsNaN x = false := by
    show decide (Jvm.FP.Core.decode Jvm.FP.Core.b32 x.toNat = .nan) = false
    exact decide_eq_false hn
  have e : FP.f2d x = UInt64.ofNat (Jvm.FP.Core.encode Jvm.FP.Core.b64 (Jvm.FP.Core.round Jvm.FP.Core.b64 (Jvm.FP.Core.decode Jvm.FP.Core.b32 x.toNat))) := by
    unfold FP.f2d
    rw [hN]
    rfl
  rw [e]
  refine zf_n64 ?_
  cases h : Jvm.FP.Core.decode Jvm.FP.Core.b32 x.toNat with
  | nan => exact absurd h hn
  | inf s => exact trivial
  | fin s c q => exact zf_rr (by decide) (by decide) _ _ _ _
