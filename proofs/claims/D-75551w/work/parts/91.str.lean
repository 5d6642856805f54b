/-! STRINGS of signs below 128 -/
def zj_str (s : zS) (a : Nat) (w : List Nat) : Prop := ∃ (v : Nat) (h z : Int32) (f : Nat → Int32), s.1 a = some (.inr (9, [va_rf (some v), .int 0, .int h, .int z])) ∧ s.1 v = some (.inl (2, w.length, .inl f)) ∧ w.length ≤ 1000 ∧ ∀ i, i < w.length → f i = nI w[i]! ∧ w[i]! < 128
theorem zj_c1 : ∀ c, c < 128 → ((nI c &&& 255).toUInt32 % 65536).toInt32 = nI c := by decide +kernel
theorem zj_c2 {c : Nat} (h : c < 128) : narrow .char (.int (nI c)) = .int (nI c) := by
  have : ∀ c, c < 128 → ((nI c).toUInt32 % 65536).toInt32 = nI c := by decide +kernel
  first | exact congrArg Value.int (this c h) | (simp only [narrow]; exact congrArg Value.int (this c h))
section ZJS
variable {G : zPg} {n : Nat} {s : zS} {Q : zQ} {Y : zY} {a : Nat} {w : List Nat}
theorem zj_355 (hs : zj_str s a w) (h : Q (some (.int (nI w.length))) s) : zCall G (n + 2) 355 [.ref a] Q Y s := by
  obtain ⟨v, hh, z, f, h1, h2, h3, h4⟩ := hs
  refine ze355 ⟨_, rfl, _, _, _, rfl, h1, rfl, _, _, rfl, h2, _, _, rfl, h1, ?_⟩
  refine ze356 ⟨_, rfl, ⟨fun h9 => absurd h9 (by decide), fun _ => ⟨_, _, _, rfl, h1, rfl, rfl, ?_⟩⟩⟩
  simp only [forall_eq, ↓zqI_r, ↓zqL_r, ↓zqD_r, ↓zqF_r, ↓zqV_r, ↓zqR_r, ↓zqR_s]
  have e : nI w.length >>> ((0 : Int32) &&& 31) = nI w.length := by
    have := zn_shr (s := w.length) (k := 0) (by omega) (by omega)
    exact this
  show Q (some (.int (nI w.length >>> ((0 : Int32) &&& 31)))) s
  rw [e]
  exact h
theorem zj_357 (hs : zj_str s a w) {i : Nat} (hi : i < w.length) (h : Q (some (.int (nI w[i]!))) s) : zCall G (n + 4) 357 [.ref a, .int (nI i)] Q Y s := by
  obtain ⟨v, hh, z, f, h1, h2, h3, h4⟩ := hs
  obtain ⟨h5, h6⟩ := h4 i hi
  refine ze357 ⟨_, _, rfl, _, _, rfl, h1, ?_⟩
  refine ze358 ⟨_, rfl, ⟨fun h9 => absurd h9 (by decide), fun _ => ⟨_, _, _, rfl, h1, rfl, ⟨fun h9 => absurd rfl h9, fun _ => ⟨Or.inr rfl, ?_⟩⟩⟩⟩⟩
  simp only [forall_eq, ↓zqI_r, ↓zqL_r, ↓zqD_r, ↓zqF_r, ↓zqV_r, ↓zqR_r, ↓zqR_s]
  refine ⟨fun h9 => absurd h9 (by decide), fun _ => ⟨_, _, _, rfl, h1, rfl, ?_⟩⟩
  refine ze414 ⟨_, _, rfl, _, _, rfl, h2, ?_⟩
  refine ze359 ⟨_, _, rfl, ?_⟩
  refine ze427 ⟨_, _, _, rfl, ⟨fun h9 => absurd h9 (nI_pos (by omega)), fun _ => ⟨fun _ => ?_, fun h9 => absurd (nI_lt hi (by omega)) h9⟩⟩⟩
  simp only [forall_eq, ↓zqI_r, ↓zqL_r, ↓zqD_r, ↓zqF_r, ↓zqV_r, ↓zqR_r, ↓zqR_s]
  refine ⟨_, _, _, rfl, h2, nI_i hi (by omega), ?_⟩
  rw [nI_cl (by omega), h5]
  dsimp only
  rw [zj_c1 _ h6]
  exact ⟨zj_c2 h6, zj_c2 h6, h⟩
end ZJS
