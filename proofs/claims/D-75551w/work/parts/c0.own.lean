/-! THE COMPONENT's CELLS: reads, writes, makings; whose a cell is -/
abbrev zo_R : Type := (Nat → Int32) ⊕ (Nat → Int64) ⊕ (Nat → UInt32) ⊕ (Nat → UInt64) ⊕ (Nat → Option Nat)
/-- an array of references -/
abbrev zo_rf (f : Nat → Option Nat) : zo_R := .inr (.inr (.inr (.inr f)))
/-- a cell is written -/
def zo_w (a : Nat) (e : va_E) (σ σ' : zS) : Prop := σ'.1 a = some e ∧ (∀ b, b ≠ a → σ'.1 b = σ.1 b) ∧ σ'.2 = σ.2
/-- a cell is made, of k slots -/
def zo_n (a : Nat) (e : va_E) (k : Nat) (σ σ' : zS) : Prop := σ.1 a = none ∧ a = σ.2.1 ∧ σ'.1 a = some e ∧ (∀ b, b ≠ a → σ'.1 b = σ.1 b) ∧ σ'.2.1 = σ.2.1 + 1 ∧ σ'.2.2.1 + 1 = σ.2.2.1 ∧ σ'.2.2.2 + k = σ.2.2.2
section ZO
variable {σ σ' σ'' : zS} {a b ci k t n z0 p : Nat} {fs : List Value}
theorem zo_gI {v : Int32} {K : Int32 → Prop} (ha : σ.1 a = some (.inr (ci, fs))) (hk : fs[k]? = some (.int v)) (h : K v) : zgI σ (some a) ci k K := ⟨a, fs, v, rfl, ha, hk, h⟩
theorem zo_gL {v : Int64} {K : Int64 → Prop} (ha : σ.1 a = some (.inr (ci, fs))) (hk : fs[k]? = some (.long v)) (h : K v) : zgL σ (some a) ci k K := ⟨a, fs, v, rfl, ha, hk, h⟩
theorem zo_gR {v : Option Nat} {K : Option Nat → Prop} (ha : σ.1 a = some (.inr (ci, fs))) (hk : fs[k]? = some (va_rf v)) (h : K v) : zgR σ (some a) ci k K := ⟨a, fs, v, rfl, ha, hk, h⟩
theorem zo_gIM {v : Int32} {cs : List Nat} {K : Int32 → Prop} (ha : σ.1 a = some (.inr (ci, fs))) (hc : ci ∈ cs) (hk : fs[k]? = some (.int v)) (h : K v) : zgIM σ (some a) cs k K := ⟨a, ci, fs, v, rfl, hc, ha, hk, h⟩
theorem zo_gRM {v : Option Nat} {cs : List Nat} {K : Option Nat → Prop} (ha : σ.1 a = some (.inr (ci, fs))) (hc : ci ∈ cs) (hk : fs[k]? = some (va_rf v)) (h : K v) : zgRM σ (some a) cs k K := ⟨a, ci, fs, v, rfl, hc, ha, hk, h⟩
theorem zo_rc {K : Nat → Prop} (ha : σ.1 a = some (.inr (ci, fs))) (h : K a) : zrc σ (some a) ci K := ⟨a, fs, rfl, ha, h⟩
theorem zo_rcM {cs : List Nat} {K : Nat → Nat → Prop} (ha : σ.1 a = some (.inr (ci, fs))) (hc : ci ∈ cs) (h : K a ci) : zrcM σ (some a) cs K := ⟨a, ci, fs, rfl, hc, ha, h⟩
theorem zo_aI {f : Nat → Int32} {K : Int32 → Prop} (ha : σ.1 a = some (.inl (t, n, .inl f))) (hp : p < n) (hn : n < 2147483648) (h : K (f p)) : zaI σ t (some a) (nI p) K := ⟨a, n, f, rfl, ha, nI_i hp hn, by rw [nI_cl (by omega)]; exact h⟩
theorem zo_aL {f : Nat → Int64} {K : Int64 → Prop} (ha : σ.1 a = some (.inl (1, n, .inr (.inl f)))) (hp : p < n) (hn : n < 2147483648) (h : K (f p)) : zaL σ (some a) (nI p) K := ⟨a, n, f, rfl, ha, nI_i hp hn, by rw [nI_cl (by omega)]; exact h⟩
theorem zo_aR {f : Nat → Option Nat} {K : Option Nat → Prop} (ha : σ.1 a = some (.inl (t, n, zo_rf f))) (hp : p < n) (hn : n < 2147483648) (h : K (f p)) : zaR σ t (some a) (nI p) K := ⟨a, n, f, rfl, ha, nI_i hp hn, by rw [nI_cl (by omega)]; exact h⟩
theorem zo_ln {x : zo_R} {K : Int32 → Prop} (ha : σ.1 a = some (.inl (t, n, x))) (h : K (nI n)) : zln σ t (some a) K := ⟨a, (n, x), rfl, ha, h⟩
theorem zo_put {v : Value} {K : zS → Prop} (ha : σ.1 a = some (.inr (ci, fs))) (hz : z0 ≤ a) (hk : Nat.ble (k + 1) fs.length = true) (h : ∀ s, zo_w a (.inr (ci, fs.set k v)) σ s → K s) : zput σ z0 (some a) ci k v K := ⟨a, fs, rfl, hz, ha, Nat.le_of_ble_eq_true hk, fun s hs => h s (by subst hs; exact ⟨zup_s _ _ _, fun b hb => zup_n hb, rfl⟩)⟩
theorem zo_putM {v : Value} {cs : List Nat} {K : zS → Prop} (ha : σ.1 a = some (.inr (ci, fs))) (hc : ci ∈ cs) (hz : z0 ≤ a) (hk : Nat.ble (k + 1) fs.length = true) (h : ∀ s, zo_w a (.inr (ci, fs.set k v)) σ s → K s) : zputM σ z0 (some a) cs k v K := ⟨a, ci, fs, rfl, hc, hz, ha, Nat.le_of_ble_eq_true hk, fun s hs => h s (by subst hs; exact ⟨zup_s _ _ _, fun b hb => zup_n hb, rfl⟩)⟩
theorem zo_sI {f : Nat → Int32} {x : Int32} {K : zS → Prop} (ha : σ.1 a = some (.inl (t, n, .inl f))) (hz : z0 ≤ a) (hp : p < n) (hn : n < 2147483648) (h : ∀ s, zo_w a (.inl (t, n, .inl (va_up f p x))) σ s → K s) : zsI σ z0 t (some a) (nI p) x K := ⟨a, n, f, rfl, hz, ha, nI_i hp hn, fun s hs => h s (by subst hs; rw [nI_cl (by omega)]; exact ⟨zup_s _ _ _, fun b hb => zup_n hb, rfl⟩)⟩
theorem zo_sL {f : Nat → Int64} {x : Int64} {K : zS → Prop} (ha : σ.1 a = some (.inl (1, n, .inr (.inl f)))) (hz : z0 ≤ a) (hp : p < n) (hn : n < 2147483648) (h : ∀ s, zo_w a (.inl (1, n, .inr (.inl (va_up f p x)))) σ s → K s) : zsL σ z0 (some a) (nI p) x K := ⟨a, n, f, rfl, hz, ha, nI_i hp hn, fun s hs => h s (by subst hs; rw [nI_cl (by omega)]; exact ⟨zup_s _ _ _, fun b hb => zup_n hb, rfl⟩)⟩
theorem zo_sR {f : Nat → Option Nat} {cs : List Nat} {v : Option Nat} {K : zS → Prop} (ha : σ.1 a = some (.inl (t, n, zo_rf f))) (hz : z0 ≤ a) (hp : p < n) (hn : n < 2147483648) (hv : v = none ∨ ∃ b ci fs, v = some b ∧ ci ∈ cs ∧ σ.1 b = some (.inr (ci, fs))) (h : ∀ s, zo_w a (.inl (t, n, zo_rf (va_up f p v))) σ s → K s) : zsR σ z0 t cs (some a) (nI p) v K := ⟨a, n, f, rfl, hz, ha, nI_i hp hn, hv, fun s hs => h s (by subst hs; rw [nI_cl (by omega)]; exact ⟨zup_s _ _ _, fun b hb => zup_n hb, rfl⟩)⟩
theorem zo_mk {e : va_E} (hc : 1 ≤ σ.2.2.1) (hk : k ≤ σ.2.2.2) (h0 : σ.1 σ.2.1 = none) : zo_n σ.2.1 e k σ (zup σ.1 σ.2.1 e, σ.2.1 + 1, σ.2.2.1 - 1, σ.2.2.2 - k) := ⟨h0, rfl, zup_s _ _ _, fun b hb => zup_n hb, rfl, Nat.sub_add_cancel hc, Nat.sub_add_cancel hk⟩
theorem zo_new {K : zS → Prop} (hc : 1 ≤ σ.2.2.1) (hk : k ≤ σ.2.2.2) (h : ∀ s, zo_n σ.2.1 (.inr (ci, fs)) k σ s → K s) : znew σ ci fs k K := ⟨hc, hk, fun h0 s hs => h s (by subst hs; exact zo_mk hc hk h0)⟩
theorem zo_newA {e : zo_R} {K : zS → Prop} (hn : n < 60000000) (hc : 1 ≤ σ.2.2.1) (hk : n ≤ σ.2.2.2) (h : ∀ s, zo_n σ.2.1 (.inl (t, n, e)) n σ s → K s) : znewA σ t (nI n) e K := by
  have e1 : (nI n).toNatClampNeg = n := nI_cl (by omega)
  have e2 : ¬ nI n < 0 := nI_pos (by omega)
  unfold znewA
  rw [e1]
  exact ⟨e2, by omega, hc, hk, fun h0 s hs => h s (by subst hs; exact zo_mk hc hk h0)⟩
/-- whose the cells are that were made on the way: nobody's (below 4), or some object's (its address + 4) -/
def zo_nt (σ s : zS) (u : Nat → Nat) : Prop := ∀ b e, s.1 b = some e → σ.1 b = none → u b < 4 ∨ ∃ e2, s.1 (u b - 4) = some e2
/-- from (σ, τ) to (s, u): what is there stays, but for the cells of A -/
def zo_ad (A : Nat → Prop) (σ : zS) (τ : Nat → Nat) (s : zS) (u : Nat → Nat) : Prop := σ.2.1 ≤ s.2.1 ∧ zo_nt σ s u ∧ ∀ a e, σ.1 a = some e → ∃ e', s.1 a = some e' ∧ u a = τ a ∧ (A a ∨ e' = e)
/-- the same, but for what O owns -/
def zo_le (O : Nat → Prop) (σ : zS) (τ : Nat → Nat) (s : zS) (u : Nat → Nat) : Prop := zo_ad (fun a => O (τ a)) σ τ s u
/-- tags are below 4 or some object's -/
def zo_tw (σ : zS) (τ : Nat → Nat) : Prop := ∀ b e, σ.1 b = some e → τ b < 4 ∨ ∃ e2, σ.1 (τ b - 4) = some e2
variable {O O' : Nat → Prop} {τ τ' τ'' : Nat → Nat} {e e0 : va_E} {A A' : Nat → Prop}
theorem zo_ad.rfl' : zo_ad A σ τ σ τ := ⟨Nat.le_refl _, fun b e h h' => (by rw [h'] at h; cases h), fun _ e h => ⟨e, h, rfl, Or.inr rfl⟩⟩
theorem zo_ad.trans (h : zo_ad A σ τ σ' τ') (h' : zo_ad A' σ' τ' σ'' τ'') (hA : ∀ a e, σ.1 a = some e → A' a → A a) : zo_ad A σ τ σ'' τ'' := ⟨Nat.le_trans h.1 h'.1, fun b e hb h0 => by
  cases hm : σ'.1 b with
  | none => exact h'.2.1 b e hb hm
  | some e1 =>
    obtain ⟨_, _, g2, _⟩ := h'.2.2 b e1 hm
    rw [g2]
    rcases h.2.1 b e1 hm h0 with g | ⟨e2, g⟩
    · exact Or.inl g
    · obtain ⟨e3, k1, _⟩ := h'.2.2 _ e2 g
      exact Or.inr ⟨e3, k1⟩, fun a e he => by
  obtain ⟨e1, g1, g2, g3⟩ := h.2.2 a e he
  obtain ⟨e2, k1, k2, k3⟩ := h'.2.2 a e1 g1
  refine ⟨e2, k1, k2.trans g2, ?_⟩
  rcases g3 with g3 | g3
  · exact Or.inl g3
  · rcases k3 with k3 | k3
    · exact Or.inl (hA a e he k3)
    · exact Or.inr (k3.trans g3)⟩
theorem zo_ad.wide (h : zo_ad A σ τ σ' τ') (hA : ∀ a e, σ.1 a = some e → A a → A' a) : zo_ad A' σ τ σ' τ' := ⟨h.1, h.2.1, fun a e he => by
  obtain ⟨e1, g1, g2, g3⟩ := h.2.2 a e he
  exact ⟨e1, g1, g2, g3.imp (hA a e he) id⟩⟩
theorem zo_ad.at (h : zo_ad A σ τ σ' τ') (ha : σ.1 a = some e) (hA : ¬ A a) : σ'.1 a = some e := by
  obtain ⟨e1, g1, g2, g3⟩ := h.2.2 a e ha
  rcases g3 with g3 | g3
  · exact absurd g3 hA
  · rw [← g3]; exact g1
theorem zo_ad.tg (h : zo_ad A σ τ σ' τ') (ha : σ.1 a = some e) : τ' a = τ a := by
  obtain ⟨e1, g1, g2, g3⟩ := h.2.2 a e ha
  exact g2
theorem zo_le.rfl' : zo_le O σ τ σ τ := zo_ad.rfl'
theorem zo_le.trans (h : zo_le O σ τ σ' τ') (h' : zo_le O σ' τ' σ'' τ'') : zo_le O σ τ σ'' τ'' := zo_ad.trans h h' fun a e he hO => by
  have hO : O (τ' a) := hO
  rw [zo_ad.tg h he] at hO
  exact hO
theorem zo_le.wide (h : zo_le O σ τ σ' τ') (hO : ∀ x, O x → O' x) : zo_le O' σ τ σ' τ' := zo_ad.wide h fun a _ _ => hO _
/-- what is not owned stays -/
theorem zo_le.at (h : zo_le O σ τ σ' τ') (ha : σ.1 a = some e) (hO : ¬ O (τ a)) : σ'.1 a = some e := zo_ad.at h ha hO
theorem zo_le.tg (h : zo_le O σ τ σ' τ') (ha : σ.1 a = some e) : τ' a = τ a := zo_ad.tg h ha
theorem zo_le.at' (h : zo_le O σ τ σ' τ') {x : Nat} (ha : σ.1 a = some e) (ht : τ a = x) (hO : ¬ O x) : σ'.1 a = some e ∧ τ' a = x := ⟨h.at ha (by rw [ht]; exact hO), (h.tg ha).trans ht⟩
theorem zo_ad.tw (h : zo_ad A σ τ σ' τ') (hw : zo_tw σ τ) : zo_tw σ' τ' := fun b e hb => by
  cases hm : σ.1 b with
  | none => exact h.2.1 b e hb hm
  | some e1 =>
    rw [h.tg hm]
    rcases hw b e1 hm with g | ⟨e2, g⟩
    · exact Or.inl g
    · obtain ⟨e3, k1, _⟩ := h.2.2 _ e2 g
      exact Or.inr ⟨e3, k1⟩
theorem zo_ad.toLe (h : zo_ad A σ τ σ' τ') (hA : ∀ a, A a → O (τ a)) : zo_le O σ τ σ' τ' := zo_ad.wide h fun a _ _ => hA a
theorem zo_le.ad (h : zo_le O σ τ σ' τ') (hA : ∀ a e, σ.1 a = some e → O (τ a) → A a) : zo_ad A σ τ σ' τ' := zo_ad.wide h hA
/-- what is made on the way may be changed -/
theorem zo_ad.after {x : Nat} (h : zo_ad A σ τ σ' τ') (h' : zo_ad (· = x) σ' τ' σ'' τ'') (h0 : σ.1 x = none) : zo_ad A σ τ σ'' τ'' := zo_ad.trans h h' fun b e he hb => by
  have hb : b = x := hb
  subst hb
  rw [h0] at he
  cases he
theorem zo_le.after {x : Nat} (h : zo_le O σ τ σ' τ') (h' : zo_ad (· = x) σ' τ' σ'' τ'') (h0 : σ.1 x = none) : zo_le O σ τ σ'' τ'' := zo_ad.after h h' h0
/-- what belongs to an object made on the way may be changed -/
theorem zo_le.fresh {x : Nat} (h : zo_le O σ τ σ' τ') (h' : zo_le (· = x + 4) σ' τ' σ'' τ'') (h0 : σ.1 x = none) (hw : zo_tw σ τ) : zo_le O σ τ σ'' τ'' := zo_ad.trans h h' fun b e he hb => by
  have hb : τ' b = x + 4 := hb
  rw [h.tg he] at hb
  rcases hw b e he with g | ⟨e2, g⟩
  · omega
  · rw [hb, show x + 4 - 4 = x by omega, h0] at g
    cases g
theorem zo_w.ne (h : zo_w a e σ σ') {e' : va_E} (hb : σ.1 b = some e') (hn : b ≠ a) : σ'.1 b = some e' := (h.2.1 b hn).trans hb
theorem zo_w.ad (h : zo_w a e σ σ') (ha : σ.1 a = some e0) (hA : A a) : zo_ad A σ τ σ' τ := by
  refine ⟨by rw [h.2.2]; exact Nat.le_refl _, fun b x hb h0 => ?_, fun b x hb => ?_⟩
  · by_cases hn : b = a
    · subst hn
      rw [ha] at h0
      cases h0
    · rw [h.2.1 b hn, h0] at hb
      cases hb
  · by_cases hn : b = a
    · subst hn
      exact ⟨e, h.1, rfl, Or.inl hA⟩
    · exact ⟨x, h.ne hb hn, rfl, Or.inr rfl⟩
theorem zo_w.le (h : zo_w a e σ σ') (ha : σ.1 a = some e0) (hO : O (τ a)) : zo_le O σ τ σ' τ := zo_w.ad h ha hO
theorem zo_n.nn (h : zo_n a e k σ σ') {e' : va_E} (hb : σ.1 b = some e') : b ≠ a := fun hn => by
  subst hn
  rw [h.1] at hb
  cases hb
theorem zo_n.ne (h : zo_n a e k σ σ') {e' : va_E} (hb : σ.1 b = some e') : σ'.1 b = some e' := (h.2.2.2.1 b (h.nn hb)).trans hb
theorem zo_n.at (h : zo_n a e k σ σ') : σ'.1 a = some e := h.2.2.1
/-- a cell that is made is the x's own -/
theorem zo_n.ad (h : zo_n a e k σ σ') (x : Nat) (hx : x < 4 ∨ x = a + 4 ∨ ∃ e2, σ.1 (x - 4) = some e2) : zo_ad A σ τ σ' (va_up τ a x) := by
  refine ⟨by rw [h.2.2.2.2.1]; omega, fun b e' hb h0 => ?_, fun b e' hb => ⟨e', h.ne hb, va_up_ne _ _ (h.nn hb), Or.inr rfl⟩⟩
  by_cases hn : b = a
  · subst hn
    rw [va_up_self]
    rcases hx with hx | hx | ⟨e2, hx⟩
    · exact Or.inl hx
    · exact Or.inr ⟨e, by rw [hx, show b + 4 - 4 = b by omega]; exact h.at⟩
    · exact Or.inr ⟨e2, h.ne hx⟩
  · rw [h.2.2.2.1 b hn, h0] at hb
    cases hb
theorem zo_n.le (h : zo_n a e k σ σ') (x : Nat) (hx : x < 4 ∨ x = a + 4 ∨ ∃ e2, σ.1 (x - 4) = some e2) : zo_le O σ τ σ' (va_up τ a x) := zo_n.ad h x hx
/-- a cell made on the way is nobody's: it may be written -/
theorem zo_ad.new (h : zo_ad A σ τ σ' τ') (h0 : σ.1 a = none) (ha : σ'.1 a = some e0) (hw : zo_w a e σ' σ'') : zo_ad A σ τ σ'' τ' := zo_ad.after h (hw.ad (A := (· = a)) ha rfl) h0
theorem zo_le.new (h : zo_le O σ τ σ' τ') (h0 : σ.1 a = none) (ha : σ'.1 a = some e0) (hw : zo_w a e σ' σ'') : zo_le O σ τ σ'' τ' := zo_ad.new h h0 ha hw
/-- another tag for what was made on the way -/
theorem zo_ad.tag (h : zo_ad A σ τ σ' τ') (h0 : σ.1 a = none) (x : Nat) (hx : x < 4 ∨ ∃ e2, σ'.1 (x - 4) = some e2) : zo_ad A σ τ σ' (va_up τ' a x) := ⟨h.1, fun b e' hb hn => by
  by_cases hba : b = a
  · subst hba
    rw [va_up_self]
    exact hx
  · rw [va_up_ne _ _ hba]
    exact h.2.1 b e' hb hn, fun b e' hb => by
  obtain ⟨e1, g1, g2, g3⟩ := h.2.2 b e' hb
  refine ⟨e1, g1, ?_, g3⟩
  rw [va_up_ne _ _ (fun hn => by subst hn; rw [h0] at hb; cases hb)]
  exact g2⟩
theorem zo_le.tag (h : zo_le O σ τ σ' τ') (h0 : σ.1 a = none) (x : Nat) (hx : x < 4 ∨ ∃ e2, σ'.1 (x - 4) = some e2) : zo_le O σ τ σ' (va_up τ' a x) := zo_ad.tag h h0 x hx
end ZO
