/-! JDK: CONSTANTS, ArrayList -/
/-- a String whose signs are below 128, by its fields; h, z: hash, hashIsZero -/
def zc_sx (σ : zS) (a v : Nat) (h z : Int32) (w : List Nat) : Prop := ∃ f, σ.1 a = some (.inr (9, [va_rf (some v), .int 0, .int h, .int z])) ∧ σ.1 v = some (.inl (2, w.length, .inl f)) ∧ w.length ≤ 1000 ∧ ∀ i, i < w.length → f i = nI w[i]! ∧ w[i]! < 128
def zc_hs : List Nat → Int32 → Int32
  | [], x => x
  | c :: w, x => zc_hs w (31 * x + nI c)
/-- a constant String -/
def zc_str (σ : zS) (τ : Nat → Nat) (a : Nat) (w : List Nat) : Prop := ∃ v h z, zc_sx σ a v h z w ∧ τ a = 0 ∧ τ v = 0 ∧ h = zc_hs w 0 ∧ (h = 0 → z = 1)
/-- the component's constants -/
def zc_ws : List (Nat × String) := [(0, ""), (1, "set"), (2, "items"), (3, "weight"), (4, "room"), (5, "value"), (6, "gain"), (7, "harm"), (8, "result"), (9, "answered"), (29, ""), (30, "duel"), (31, "friendly"), (32, "item"), (33, "plan"), (34, "answer"), (35, "first"), (36, "many"), (37, "not"), (38, "and"), (39, "or")]
/-- what lies there from the start on -/
def zc_K (G : zPg) (σ : zS) (τ : Nat → Nat) : Prop := G.1 ≤ σ.2.1 ∧ (∃ f, σ.1 (G.2 54) = some (.inl (4, 0, zo_rf f)) ∧ τ (G.2 54) = 0) ∧
  (∃ f, σ.1 (G.2 55) = some (.inl (9, 256, zo_rf f)) ∧ τ (G.2 55) = 0 ∧ ∀ i, i < 256 → ∃ a, f i = some a ∧ σ.1 a = some (.inr (10, [.int (iI ((i : Int) - 128))])) ∧ τ a = 0) ∧
  (∀ q ∈ zc_ws, zc_str σ τ (G.2 q.1) (zw q.2)) ∧
  (∃ f, σ.1 (G.2 56) = some (.inl (2, 100, .inl f)) ∧ τ (G.2 56) = 0 ∧ ∀ i, i < 100 → f i = nI (48 + i / 10)) ∧
  (∃ f, σ.1 (G.2 57) = some (.inl (2, 100, .inl f)) ∧ τ (G.2 57) = 0 ∧ ∀ i, i < 100 → f i = nI (48 + i % 10)) ∧
  (∀ j, j < 2 → σ.1 (G.2 (70 + j)) = some (.inr (64 + j, [])) ∧ τ (G.2 (70 + j)) = 0) ∧
  (∀ i j, 50 ≤ i → i < j → j ≤ 53 → G.2 i ≠ G.2 j) ∧ zo_tw σ τ
/-- an ArrayList at a (it and its array are its own): len elements E -/
def zc_li (G : zPg) (σ : zS) (τ : Nat → Nat) (a len : Nat) (E : Nat → Nat) : Prop := ∃ (mc : Int32) (arr cap : Nat) (f : Nat → Option Nat), σ.1 a = some (.inr (2, [.int mc, va_rf (some arr), .int (nI len)])) ∧ τ a = a + 4 ∧ G.1 ≤ a ∧ σ.1 arr = some (.inl (4, cap, zo_rf f)) ∧ len ≤ cap ∧ cap ≤ 200000 ∧ (∀ i, i < len → f i = some (E i)) ∧ ((arr = G.2 54 ∧ cap = 0) ∨ (τ arr = a + 4 ∧ G.1 ≤ arr ∧ arr ≠ G.2 54 ∧ 10 ≤ cap))
/-- an object that a list may hold -/
def zc_ob (σ : zS) (e : Nat) : Prop := ∃ ci fs, ci ≤ 30 ∧ σ.1 e = some (.inr (ci, fs))
theorem zc_m30 {ci : Nat} (h : ci ≤ 30) : ci ∈ [0, 1, 2, 3, 4, 5, 6, 7, 8, 9, 10, 11, 12, 13, 14, 15, 16, 17, 18, 19, 20, 21, 22, 23, 24, 25, 26, 27, 28, 29, 30] := by
  have h1 : ∀ ci, ci ≤ 30 → ci ∈ [0, 1, 2, 3, 4, 5, 6, 7, 8, 9, 10, 11, 12, 13, 14, 15, 16, 17, 18, 19, 20, 21, 22, 23, 24, 25, 26, 27, 28, 29, 30] := by decide
  exact h1 ci h
section ZC1
variable {G : zPg} {n : Nat} {σ σ' : zS} {τ τ' : Nat → Nat} {Q : zQ} {Y : zY} {a len i e : Nat} {E E' : Nat → Nat} {O : Nat → Prop}
theorem zc_sx.at {v : Nat} {hh z : Int32} {w : List Nat} (h : zc_sx σ a v hh z w) (h1 : ∀ e, σ.1 a = some e → σ'.1 a = some e) (h2 : ∀ e, σ.1 v = some e → σ'.1 v = some e) : zc_sx σ' a v hh z w := by
  obtain ⟨f, g1, g2, g3⟩ := h
  exact ⟨f, h1 _ g1, h2 _ g2, g3⟩
theorem zc_str.mono {w : List Nat} (h : zc_str σ τ a w) (hle : zo_le O σ τ σ' τ') (h0 : ¬ O 0) : zc_str σ' τ' a w := by
  obtain ⟨v, hh, z, g1, g2, g3, g4⟩ := h
  obtain ⟨f, k1, k2, k3⟩ := g1
  obtain ⟨m1, m2⟩ := hle.at' k1 g2 h0
  obtain ⟨m3, m4⟩ := hle.at' k2 g3 h0
  exact ⟨v, hh, z, ⟨f, m1, m3, k3⟩, m2, m4, g4⟩
theorem zc_K.mono (h : zc_K G σ τ) (hle : zo_le O σ τ σ' τ') (h0 : ¬ O 0) : zc_K G σ' τ' := by
  obtain ⟨h1, ⟨f2, g2, g3⟩, ⟨f3, g4, g5, g6⟩, h4, ⟨f5, g7, g8, g9⟩, ⟨f6, g10, g11, g12⟩, h7, h8, h9⟩ := h
  refine ⟨Nat.le_trans h1 hle.1, ⟨f2, hle.at' g2 g3 h0⟩, ⟨f3, (hle.at' g4 g5 h0).1, (hle.at' g4 g5 h0).2, fun i hi => ?_⟩, fun q hq => (h4 q hq).mono hle h0, ⟨f5, (hle.at' g7 g8 h0).1, (hle.at' g7 g8 h0).2, g9⟩, ⟨f6, (hle.at' g10 g11 h0).1, (hle.at' g10 g11 h0).2, g12⟩, fun j hj => hle.at' (h7 j hj).1 (h7 j hj).2 h0, h8, zo_ad.tw hle h9⟩
  obtain ⟨b, k1, k2, k3⟩ := g6 i hi
  exact ⟨b, k1, hle.at' k2 k3 h0⟩
theorem zc_li.mono (h : zc_li G σ τ a len E) (hK : zc_K G σ τ) (hle : zo_le O σ τ σ' τ') (hO : ¬ O (a + 4)) (h0 : ¬ O 0) : zc_li G σ' τ' a len E := by
  obtain ⟨mc, arr, cap, f, h1, h2, h3, h4, h5, h6, h7, h8⟩ := h
  refine ⟨mc, arr, cap, f, hle.at h1 (by rw [h2]; exact hO), (hle.tg h1).trans h2, h3, ?_, h5, h6, h7, ?_⟩
  · rcases h8 with h8 | h8
    · obtain ⟨f', _, g3⟩ := hK.2.1
      exact hle.at h4 (by rw [h8.1, g3]; exact h0)
    · exact hle.at h4 (by rw [h8.1]; exact hO)
  · rcases h8 with h8 | h8
    · exact Or.inl h8
    · exact Or.inr ⟨(hle.tg h4).trans h8.1, h8.2⟩
theorem zc_li.ext (h : zc_li G σ τ a len E) (hE : ∀ i, i < len → E' i = E i) : zc_li G σ τ a len E' := by
  obtain ⟨mc, arr, cap, f, h1, h2, h3, h4, h5, h6, h7, h8⟩ := h
  exact ⟨mc, arr, cap, f, h1, h2, h3, h4, h5, h6, fun i hi => by rw [h7 i hi, hE i hi], h8⟩
theorem zc_427 {r : Option Nat} (hi : i < len) (hl : len < 2147483648) (h : Q (some (.int (nI i))) σ) : zCall G (n + 1) 427 [.int (nI i), .int (nI len), va_rf r] Q Y σ := by
  refine ze427 ⟨_, _, _, rfl, ?_⟩
  refine ⟨fun h9 => absurd h9 (nI_pos (by omega)), fun _ => ⟨fun _ => h, fun h9 => absurd (nI_lt hi (by omega)) h9⟩⟩
theorem zc_454 (hi : i < len) (hl : len < 2147483648) (h : Q (some (.int (nI i))) σ) : zCall G (n + 2) 454 [.int (nI i), .int (nI len)] Q Y σ := by
  refine ze454 ⟨_, _, rfl, ?_⟩
  exact zc_427 hi hl (zqI_r.mpr h)
theorem zc_rc2 (h : zc_li G σ τ a len E) {K : Nat → Prop} (hk : K a) : zrc σ (some a) 2 K := by
  obtain ⟨mc, arr, cap, f, h1, _⟩ := h
  exact zo_rc h1 hk
theorem zc_128 (h : zc_li G σ τ a len E) (hq : Q (some (.int (nI len))) σ) : zCall G (n + 1) 128 [.ref a] Q Y σ := by
  obtain ⟨mc, arr, cap, f, h1, _⟩ := h
  refine ze128 ⟨_, rfl, ?_⟩
  exact zo_gI h1 rfl hq
theorem zc_130 (h : zc_li G σ τ a len E) (hl : len < 1000000) (hi : i < len) (hq : Q (some (va_rf (some (E i)))) σ) : zCall G (n + 1) 130 [.ref a, .int (nI i)] Q Y σ := by
  obtain ⟨mc, arr, cap, f, h1, h2, h3, h4, h5, h6, h7, h8⟩ := h
  refine ze130 ⟨_, _, rfl, ?_⟩
  refine zo_gR h1 rfl (zo_aR h4 (by omega) (by omega) ?_)
  rw [h7 i hi]
  exact hq
theorem zc_129 (h : zc_li G σ τ a len E) (hl : len < 1000000) (hi : i < len) (hq : Q (some (va_rf (some (E i)))) σ) : zCall G (n + 3) 129 [.ref a, .int (nI i)] Q Y σ := by
  have hh := h
  obtain ⟨mc, arr, cap, f, h1, _⟩ := h
  refine ze129 ⟨_, _, rfl, ?_⟩
  refine zo_gI h1 rfl (zc_454 hi (by omega) (zqI_r.mpr (zo_rc h1 (zc_130 hh hl hi (zqR_r.mpr hq)))))
/-- a new list -/
theorem zc_127 {x : Int32} {r : Option Nat} (h1 : σ.1 a = some (.inr (2, [.int x, va_rf r, .int (nI 0)]))) (h2 : τ a = a + 4) (h3 : G.1 ≤ a) (hK : zc_K G σ τ) (h : ∀ s, zo_w a (.inr (2, [.int 0, va_rf (some (G.2 54)), .int (nI 0)])) σ s → zc_li G s τ a 0 E → Q none s) : zCall G (n + 3) 127 [.ref a] Q Y σ := by
  refine ze127 ⟨_, rfl, ⟨_, rfl, ?_⟩⟩
  refine ze126 ⟨_, rfl, ⟨_, rfl, ?_⟩⟩
  refine ze125 ⟨_, rfl, ⟨_, rfl, zqV_r.mpr ?_⟩⟩
  refine zo_put h1 h3 rfl fun s1 w1 => zqV_r.mpr ?_
  refine zo_put w1.1 h3 rfl fun s2 w2 => ?_
  have hw : zo_w a (.inr (2, [.int 0, va_rf (some (G.2 54)), .int (nI 0)])) σ s2 := ⟨w2.1, fun b hb => (w2.2.1 b hb).trans (w1.2.1 b hb), w2.2.2.trans w1.2.2⟩
  obtain ⟨f, hf, _⟩ := hK.2.1
  have hne : G.2 54 ≠ a := fun e => by
    rw [e, h1] at hf
    cases hf
  exact h s2 hw ⟨0, G.2 54, 0, f, hw.1, h2, h3, hw.ne hf hne, Nat.le_refl _, by omega, fun i hi => absurd hi (Nat.not_lt_zero _), Or.inl ⟨rfl, rfl⟩⟩
theorem zc_297 {x y : Nat} (hx : x < 2147483648) (hy : y < 2147483648) (h : Q (some (.int (nI (max x y)))) σ) : zCall G (n + 1) 297 [.int (nI x), .int (nI y)] Q Y σ := by
  refine ze297 ⟨_, _, rfl, ?_⟩
  have e : nI x < nI y ↔ x < y := nI_ltI (by omega) (by omega)
  simp only [zJ, e]
  by_cases g : x < y
  · rw [show max x y = y by omega] at h
    exact ⟨fun _ => h, fun h9 => absurd g h9⟩
  · rw [show max x y = x by omega] at h
    exact ⟨fun h9 => absurd h9 g, fun _ => h⟩
theorem zn_half {x : Nat} (h : x < 1000000) : nI x >>> ((1 : Int32) &&& 31) = nI (x / 2) := by
  have := zn_shr (s := x) (k := 1) (by omega) (by omega)
  rw [Nat.shiftRight_eq_div_pow] at this
  exact this
theorem zc_395 {x y z : Nat} (hx : 0 < x + max y z) (hx2 : x < 1000000) (hy : y < 1000000) (hz : z < 1000000) (h : Q (some (.int (nI (x + max y z)))) σ) : zCall G (n + 2) 395 [.int (nI x), .int (nI y), .int (nI z)] Q Y σ := by
  refine ze395 ⟨_, _, _, rfl, ?_⟩
  refine zc_297 (by omega) (by omega) (zqI_r.mpr ?_)
  have e0 : nI (x + max y z) ≤ (0 : Int32) ↔ x + max y z ≤ 0 := nI_leI (b := 0) (by omega) (by omega)
  have e1 : (2147483639 : Int32) < nI (x + max y z) ↔ 2147483639 < x + max y z := nI_ltI (a := 2147483639) (by omega) (by omega)
  simp only [zJ, nI_add, e0, e1]
  exact ⟨fun h9 => absurd h9 (by omega), fun _ => ⟨fun h9 => absurd h9 (by omega), fun _ => h⟩⟩
theorem zc_cpv {f : Nat → Option Nat} {x : Nat} (hf : ∀ i, i < x → ∃ e, f i = some e ∧ zc_ob σ e) : ∀ i, i < x → zcp σ 4 [0, 1, 2, 3, 4, 5, 6, 7, 8, 9, 10, 11, 12, 13, 14, 15, 16, 17, 18, 19, 20, 21, 22, 23, 24, 25, 26, 27, 28, 29, 30] (va_rf (f i)) := by
  intro i hi
  obtain ⟨e, h1, ci, fs, h2, h3⟩ := hf i hi
  rw [h1]
  exact Or.inr ⟨e, ci, fs, rfl, zc_m30 h2, h3⟩
/-- copyOf of an array of objects -/
theorem zc_406 {arr cap c2 : Nat} {f : Nat → Option Nat} (hg : G.1 ≤ arr) (ha : σ.1 arr = some (.inl (4, cap, zo_rf f))) (hK : zc_K G σ τ) (hf : ∀ i, i < cap → ∃ e, f i = some e ∧ zc_ob σ e) (h2 : cap ≤ c2) (h3 : c2 < 1000000) (hc : 1 ≤ σ.2.2.1) (hk : c2 ≤ σ.2.2.2) (h : ∀ s, zo_n σ.2.1 (.inl (4, c2, zo_rf (fun i => if i < cap then f i else none))) c2 σ s → Q (some (va_rf (some σ.2.1))) s) : zCall G (n + 3) 406 [va_rf (some arr), .int (nI c2)] Q Y σ := by
  refine ze406 ⟨_, _, rfl, arr, _, rfl, hg, ha, ?_⟩
  refine ze407 ⟨_, _, _, rfl, fun h9 => absurd rfl h9, fun _ => ?_⟩
  refine zo_newA (by omega) hc hk fun s1 w1 => ?_
  have hne := w1.nn ha
  have ha1 := w1.ne ha
  refine zo_ln ha1 ((zl_295 (by omega) (by omega)).mpr (zqI_r.mpr ?_))
  rw [show min cap c2 = cap by omega]
  have e0 : (0 : Int32).toNatClampNeg = 0 := by decide
  have ec : (nI cap).toNatClampNeg = cap := nI_cl (by omega)
  refine ⟨arr, σ.2.1, cap, c2, zo_rf f, zo_rf (fun _ => none), zo_rf (fun i => if i < cap then f i else none), rfl, rfl, hK.1, ha1, w1.at, by decide, by decide, nI_pos (by omega), by rw [e0, ec]; omega, by rw [e0, ec]; omega, ?_, ?_, ?_⟩
  · rw [e0, ec]
    intro i hi
    rw [Nat.zero_add]
    refine zc_cpv (x := cap) (fun j hj => ?_) i hi
    obtain ⟨e, g1, ci, fs, g2, g3⟩ := hf j hj
    exact ⟨e, g1, ci, fs, g2, w1.ne g3⟩
  · rw [e0, ec]
    intro j hj
    show va_rf (if j < cap then f j else none) = _
    by_cases hjc : j < cap
    · rw [if_pos hjc, if_pos (by omega)]
      show _ = va_rf (f (0 + (j - 0)))
      rw [Nat.zero_add, Nat.sub_zero]
    · rw [if_neg hjc, if_neg (by omega)]
      rfl
  · intro s hs
    subst hs
    refine zqR_r.mpr (h _ ⟨w1.1, w1.2.1, zup_s _ _ _, fun b hb => (zup_n hb).trans (w1.2.2.2.1 b hb), w1.2.2.2.2.1, w1.2.2.2.2.2.1, w1.2.2.2.2.2.2⟩)
end ZC1
