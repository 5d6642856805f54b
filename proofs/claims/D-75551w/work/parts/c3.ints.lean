/-! Integers, items, lowest bits -/
def zc_in (σ : zS) (τ : Nat → Nat) (a : Nat) (x : Int32) : Prop := σ.1 a = some (.inr (10, [.int x])) ∧ τ a = 0
/-- an item at e, of the parts g -/
def zc_it (G : zPg) (σ : zS) (τ : Nat → Nat) (e : Nat) (g : Nat → Int32) : Prop := ∃ p f, σ.1 e = some (.inr (12, [va_rf (some p)])) ∧ τ e = 0 ∧ σ.1 p = some (.inl (0, 4, .inl f)) ∧ τ p = 0 ∧ G.1 ≤ p ∧ ∀ j, j < 4 → f j = g j
/-- nothing that was there is changed -/
abbrev zo_no : Nat → Prop := fun _ => False
section ZC3
variable {G : zPg} {n : Nat} {σ σ' : zS} {τ τ' : Nat → Nat} {Q : zQ} {Y : zY} {a e : Nat} {O : Nat → Prop} {x : Int32} {g : Nat → Int32}
theorem zc_in.mono (h : zc_in σ τ a x) (hle : zo_le O σ τ σ' τ') (h0 : ¬ O 0) : zc_in σ' τ' a x := hle.at' h.1 h.2 h0
theorem zc_in.ob (h : zc_in σ τ a x) : zc_ob σ a := ⟨10, _, by omega, h.1⟩
theorem zc_it.mono (h : zc_it G σ τ e g) (hle : zo_le O σ τ σ' τ') (h0 : ¬ O 0) : zc_it G σ' τ' e g := by
  obtain ⟨p, f, h1, h2, h3, h4, h5, h6⟩ := h
  exact ⟨p, f, (hle.at' h1 h2 h0).1, (hle.at' h1 h2 h0).2, (hle.at' h3 h4 h0).1, (hle.at' h3 h4 h0).2, h5, h6⟩
theorem zc_it.ob (h : zc_it G σ τ e g) : zc_ob σ e := by
  obtain ⟨p, f, h1, _⟩ := h
  exact ⟨12, _, by omega, h1⟩
theorem zc_432 (h : zc_in σ τ a x) (hq : Q (some (.int x)) σ) : zCall G (n + 1) 432 [.ref a] Q Y σ := by
  refine ze432 ⟨_, rfl, ?_⟩
  exact zo_gI h.1 rfl hq
theorem zc_436 (hK : zc_K G σ τ) (hc : 1 ≤ σ.2.2.1) (hk : 1 ≤ σ.2.2.2) {p : Nat} (hp : p < 2147483648) (h : ∀ s u b, zo_le zo_no σ τ s u → zc_in s u b (nI p) → σ.2.2.1 ≤ s.2.2.1 + 1 → σ.2.2.2 ≤ s.2.2.2 + 1 → Q (some (va_rf (some b))) s) : zCall G (n + 3) 436 [.int (nI p)] Q Y σ := by
  refine ze436 ⟨_, rfl, ?_⟩
  refine zJ_go (fun (j : zS → Prop) => j σ) ?_ ?_
  · refine zo_new hc hk fun s1 w1 => ⟨_, rfl, ?_⟩
    have hz := hK.1
    have h0 : σ.1 σ.2.1 = none := w1.1
    generalize σ.2.1 = b at *
    refine ze437 ⟨_, _, rfl, ⟨_, rfl, ze430 ⟨_, rfl, ⟨_, rfl, zqV_r.mpr ?_⟩⟩⟩⟩
    refine zo_put w1.at hz rfl fun s2 w2 => zqV_r.mpr ?_
    refine h s2 (va_up τ b 0) b ((w1.le 0 (Or.inl (by omega))).new h0 w1.at w2) ⟨w2.1, va_up_self _ _ _⟩ ?_ ?_
    · rw [w2.2.2]
      have := w1.2.2.2.2.2.1
      omega
    · rw [w2.2.2]
      have := w1.2.2.2.2.2.2
      omega
  · intro j hj
    refine ⟨fun _ => hj, fun _ => ⟨fun _ => hj, fun h9 => ?_⟩⟩
    have h8 : p ≤ 127 := by
      have e : (127 : Int32) < nI p ↔ 127 < p := nI_ltI (a := 127) (by omega) (by omega)
      rw [e] at h9
      omega
    obtain ⟨f, g1, g2, g3⟩ := hK.2.2.1
    have e1 : nI p + 128 = nI (p + 128) := by
      show nI p + nI 128 = _
      rw [nI_add]
    rw [e1]
    obtain ⟨b, k1, k2, k3⟩ := g3 (p + 128) (by omega)
    refine zo_aR g1 (by omega) (by omega) ?_
    rw [k1]
    have e2 : iI (((p + 128 : Nat) : Int) - 128) = nI p := by
      rw [← iI_nat, show ((p + 128 : Nat) : Int) - 128 = (p : Int) by omega]
    rw [e2] at k2
    exact h σ τ b zo_le.rfl' ⟨k2, k3⟩ (by omega) (by omega)
/-- an item with one part another -/
theorem zc_447 (hK : zc_K G σ τ) (hi : zc_it G σ τ e g) (hc : 2 ≤ σ.2.2.1) (hk : 5 ≤ σ.2.2.2) {k : Nat} (hk4 : k < 4) {y : Int32} (h : ∀ s u b, zo_le zo_no σ τ s u → zc_it G s u b (va_up g k y) → σ.2.2.1 ≤ s.2.2.1 + 2 → σ.2.2.2 ≤ s.2.2.2 + 5 → Q (some (va_rf (some b))) s) : zCall G (n + 2) 447 [.ref e, .int (nI k), .int y] Q Y σ := by
  obtain ⟨p, f, h1, h2, h3, h4, h5, h6⟩ := hi
  have hz := hK.1
  refine ze447 ⟨_, _, _, rfl, ?_⟩
  refine zo_gR h1 rfl ⟨p, 4, f, rfl, h5, h3, fun i hi => rfl, by omega, by omega, fun h0 s1 hs1 => ?_⟩
  have w1 : zo_n σ.2.1 (.inl (0, 4, .inl f)) 4 σ s1 := by
    subst hs1
    exact zo_mk (by omega) (by omega) h0
  clear hs1
  refine ⟨σ.2.1, _, rfl, hz, w1.at, zo_sI w1.at hz hk4 (by omega) fun s2 w2 => ?_⟩
  have c2 : s2.2 = s1.2 := w2.2.2
  have d1 := w1.2.2.2.2.2.1
  have d2 := w1.2.2.2.2.2.2
  have d3 := w1.2.2.2.2.1
  refine zo_new (by rw [c2]; omega) (by rw [c2]; omega) fun s3 w3 => ⟨_, rfl, ?_⟩
  refine ze446 ⟨_, _, rfl, ⟨_, rfl, ?_⟩⟩
  have hz2 : G.1 ≤ s2.2.1 := by rw [c2]; omega
  refine zo_put w3.at hz2 rfl fun s4 w4 => zqV_r.mpr ?_
  have e1 : s2.2.1 = σ.2.1 + 1 := by rw [c2]; omega
  have n3 : σ.1 s2.2.1 = none := by
    have a1 := w3.1
    rw [w2.2.1 _ (by omega), w1.2.2.2.1 _ (by omega)] at a1
    exact a1
  have le1 : zo_le zo_no σ τ s1 (va_up τ σ.2.1 0) := w1.le 0 (Or.inl (by omega))
  have le2 : zo_le zo_no σ τ s2 (va_up τ σ.2.1 0) := le1.new h0 w1.at w2
  have le3 : zo_le zo_no σ τ s3 (va_up (va_up τ σ.2.1 0) s2.2.1 0) := le2.trans (w3.le 0 (Or.inl (by omega)))
  have le4 : zo_le zo_no σ τ s4 (va_up (va_up τ σ.2.1 0) s2.2.1 0) := le3.new n3 w3.at w4
  have ne : σ.2.1 ≠ s2.2.1 := by omega
  refine h s4 _ s2.2.1 le4 ⟨σ.2.1, _, w4.1, va_up_self _ _ _, w4.ne (w3.ne w2.1) ne, ?_, hz, fun j hj => ?_⟩ ?_ ?_
  · rw [va_up_ne _ _ ne, va_up_self]
  · show va_up f k y j = va_up g k y j
    by_cases hjk : j = k
    · subst hjk
      rw [va_up_self, va_up_self]
    · rw [va_up_ne _ _ hjk, va_up_ne _ _ hjk]
      exact h6 j hj
  · rw [w4.2.2]
    have := w3.2.2.2.2.2.1
    rw [c2] at this
    omega
  · rw [w4.2.2]
    have := w3.2.2.2.2.2.2
    rw [c2] at this
    omega
end ZC3
/-- the lowest bit's place -/
def zs_tzf (x : Nat) : Nat → Nat → Nat
  | 0, k => k
  | q + 1, k => if x.testBit k then k else zs_tzf x q (k + 1)
def zs_tz (x : Nat) : Nat := zs_tzf x 10 0
/-- as the JDK finds it -/
def zc_tz4 (p q : Int32) : Int32 := q + (p.toUInt32 >>> ((1 : Int32).toUInt32 &&& Int32.toUInt32 31)).toInt32
def zc_tz3 (p q : Int32) : Int32 := if p ≤ 4 then zc_tz4 p q else zc_tz4 ((p.toUInt32 >>> ((2 : Int32).toUInt32 &&& Int32.toUInt32 31)).toInt32) (q + 2)
def zc_tz2 (p q : Int32) : Int32 := if p ≤ 16 then zc_tz3 p q else zc_tz3 ((p.toUInt32 >>> ((4 : Int32).toUInt32 &&& Int32.toUInt32 31)).toInt32) (q + 4)
def zc_tz1 (p q : Int32) : Int32 := if p ≤ 256 then zc_tz2 p q else zc_tz2 ((p.toUInt32 >>> ((8 : Int32).toUInt32 &&& Int32.toUInt32 31)).toInt32) (q + 8)
def zc_tz0 (p : Int32) : Int32 := if p ≤ 65536 then zc_tz1 p 1 else zc_tz1 ((p.toUInt32 >>> ((16 : Int32).toUInt32 &&& Int32.toUInt32 31)).toInt32) (1 + 16)
def zc_tz (x : Int32) : Int32 := if 0 < ((x ^^^ (-1)) &&& (x - 1)) then zc_tz0 ((x ^^^ (-1)) &&& (x - 1)) else ((x ^^^ (-1)) &&& (x - 1)) &&& 32
theorem zc_tz_eq : ∀ x, x < 1024 → x ≠ 0 → zc_tz (nI x) = nI (zs_tz x) := by decide +kernel
theorem zc_431 {G : zPg} {n : Nat} {s : zS} {Q : zQ} {Y : zY} {x : Nat} (hx : x < 1024) (h0 : x ≠ 0) (h : Q (some (.int (nI (zs_tz x)))) s) : zCall G (n + 1) 431 [.int (nI x)] Q Y s := by
  rw [← zc_tz_eq x hx h0] at h
  generalize nI x = y at *
  refine ze431 ⟨_, rfl, ?_⟩
  intro v hv
  subst hv
  unfold zc_tz at h
  refine ⟨fun hp => ?_, fun hp => ?_⟩
  · rw [if_pos hp] at h
    generalize ((y ^^^ (-1)) &&& (y - 1)) = p at *
    unfold zc_tz0 at h
    refine zJ_go (fun (j : Int32 → Int32 → zS → Prop) => ∀ p q, Q (some (.int (zc_tz1 p q))) s → j p q s) ?_ ?_
    · intro p q h
      unfold zc_tz1 at h
      refine zJ_go (fun (j : Int32 → Int32 → zS → Prop) => ∀ p q, Q (some (.int (zc_tz2 p q))) s → j p q s) ?_ ?_
      · intro p q h
        unfold zc_tz2 at h
        refine zJ_go (fun (j : Int32 → Int32 → zS → Prop) => ∀ p q, Q (some (.int (zc_tz3 p q))) s → j p q s) ?_ ?_
        · intro p q h
          unfold zc_tz3 at h
          refine zJ_go (fun (j : Int32 → Int32 → zS → Prop) => ∀ p q, Q (some (.int (zc_tz4 p q))) s → j p q s) ?_ ?_
          · intro p q h v hv
            subst hv
            exact h
          · intro j hj
            refine ⟨fun hc => ?_, fun hc v hv v' hv' => ?_⟩
            · rw [if_pos hc] at h
              exact hj _ _ h
            · rw [if_neg hc] at h
              subst hv hv'
              exact hj _ _ h
        · intro j hj
          refine ⟨fun hc => ?_, fun hc v hv v' hv' => ?_⟩
          · rw [if_pos hc] at h
            exact hj _ _ h
          · rw [if_neg hc] at h
            subst hv hv'
            exact hj _ _ h
      · intro j hj
        refine ⟨fun hc => ?_, fun hc v hv v' hv' => ?_⟩
        · rw [if_pos hc] at h
          exact hj _ _ h
        · rw [if_neg hc] at h
          subst hv hv'
          exact hj _ _ h
    · intro j hj
      refine ⟨fun hc => ?_, fun hc v hv v' hv' => ?_⟩
      · rw [if_pos hc] at h
        exact hj _ _ h
      · rw [if_neg hc] at h
        subst hv hv'
        exact hj _ _ h
  · rw [if_neg hp] at h
    exact h
theorem zs_tz_ok : ∀ x, x < 1024 → x ≠ 0 → (x.testBit (zs_tz x) = true ∧ zs_tz x < 10 ∧ (x &&& (x - 1)) < x ∧ ∀ i, i < 10 → (x &&& (x - 1)).testBit i = (x.testBit i && !(i == zs_tz x))) := by decide +kernel
