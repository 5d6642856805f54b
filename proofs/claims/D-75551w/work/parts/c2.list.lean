/-! JDK: ArrayList: add, set, remove -/
/-- a list with all its parts named -/
def zc_lx (G : zPg) (σ : zS) (τ : Nat → Nat) (a len : Nat) (E : Nat → Nat) (mc : Int32) (arr cap : Nat) (f : Nat → Option Nat) : Prop := σ.1 a = some (.inr (2, [.int mc, va_rf (some arr), .int (nI len)])) ∧ τ a = a + 4 ∧ G.1 ≤ a ∧ σ.1 arr = some (.inl (4, cap, zo_rf f)) ∧ len ≤ cap ∧ cap ≤ 200000 ∧ (∀ i, i < len → f i = some (E i)) ∧ ((arr = G.2 54 ∧ cap = 0) ∨ (τ arr = a + 4 ∧ G.1 ≤ arr ∧ arr ≠ G.2 54 ∧ 10 ≤ cap))
section ZC2
variable {G : zPg} {n : Nat} {σ σ' : zS} {τ τ' : Nat → Nat} {Q : zQ} {Y : zY} {a len i e : Nat} {E E' : Nat → Nat} {O : Nat → Prop} {mc : Int32} {arr cap : Nat} {f : Nat → Option Nat}
theorem zc_134 (hx : zc_lx G σ τ a len E mc arr cap f) (hl : len < 100000) (hfull : len = cap) (hK : zc_K G σ τ) (hob : ∀ i, i < len → zc_ob σ (E i)) (hc : 1 ≤ σ.2.2.1) (hk : 2 * len + 10 ≤ σ.2.2.2) (h : ∀ s u arr' cap' f', zo_le (· = a + 4) σ τ s u → zc_lx G s u a len E mc arr' cap' f' → len < cap' → σ.2.2.1 ≤ s.2.2.1 + 1 → σ.2.2.2 ≤ s.2.2.2 + (2 * len + 10) → Q (some (va_rf (some arr'))) s) : zCall G (n + 4) 134 [.ref a, .int (nI (len + 1))] Q Y σ := by
  obtain ⟨h1, h2, h3, h4, h5, h6, h7, h8⟩ := hx
  have hne : arr ≠ a := fun e => by
    rw [e, h1] at h4
    cases h4
  refine ze134 ⟨_, _, rfl, ?_⟩
  refine zo_gR h1 rfl (zo_ln h4 ?_)
  rcases h8 with ⟨h8, h9⟩ | ⟨h8, h9, h10, h11⟩
  · have hl0 : len = 0 := by omega
    refine ⟨fun h9' => absurd h9' ?_, fun _ => zo_gR h1 rfl ⟨fun _ => ?_, fun h9' => absurd (by rw [h8]) h9'⟩⟩
    · rw [h9]
      decide
    · refine zc_297 (x := 10) (by omega) (by omega) (zqI_r.mpr ?_)
      rw [show max 10 (len + 1) = 10 by omega]
      refine zo_newA (by omega) hc (by omega) fun s1 w1 => ?_
      refine zo_put (w1.ne h1) h3 rfl fun s2 w2 => ?_
      have hna : a ≠ σ.2.1 := w1.nn h1
      have le2 : zo_le (· = a + 4) σ τ s2 (va_up τ σ.2.1 (a + 4)) := (w1.le (O := (· = a + 4)) (a + 4) (Or.inr (Or.inr ⟨_, by rw [show a + 4 - 4 = a by omega]; exact h1⟩))).trans (w2.le (w1.ne h1) (by show va_up τ σ.2.1 (a + 4) a = a + 4; rw [va_up_ne _ _ hna]; exact h2))
      refine h s2 (va_up τ σ.2.1 (a + 4)) σ.2.1 10 (fun _ => none) le2 ⟨w2.1, by rw [va_up_ne _ _ hna]; exact h2, h3, w2.ne w1.at (Ne.symm hna), by omega, by omega, fun i hi => absurd hi (by omega), Or.inr ⟨va_up_self _ _ _, hK.1, ?_, Nat.le_refl _⟩⟩ (by omega) ?_ ?_
      · rw [← h8]
        exact Ne.symm (w1.nn h4)
      · rw [w2.2.2]
        have := w1.2.2.2.2.2.1
        omega
      · rw [w2.2.2]
        have := w1.2.2.2.2.2.2
        omega
  · have e1 : nI (len + 1) - nI cap = nI 1 := by
      rw [← hfull]
      rw [zn_sub (by omega), show len + 1 - len = 1 by omega]
    refine ⟨fun _ => ?_, fun h9' => absurd (nI_lt (a := 0) (by omega) (by omega)) h9'⟩
    rw [e1, zn_half (by omega)]
    refine zc_395 (by omega) (by omega) (by omega) (by omega) (zqI_r.mpr ?_)
    refine zo_gR h1 rfl ?_
    refine zc_406 (τ := τ) h9 h4 hK (fun i hi => ⟨E i, h7 i (by omega), hob i (by omega)⟩) (by omega) (by omega) hc (by omega) fun s1 w1 => zqR_r.mpr ?_
    refine zo_put (w1.ne h1) h3 rfl fun s2 w2 => ?_
    have hna : a ≠ σ.2.1 := w1.nn h1
    have le2 : zo_le (· = a + 4) σ τ s2 (va_up τ σ.2.1 (a + 4)) := (w1.le (O := (· = a + 4)) (a + 4) (Or.inr (Or.inr ⟨_, by rw [show a + 4 - 4 = a by omega]; exact h1⟩))).trans (w2.le (w1.ne h1) (by show va_up τ σ.2.1 (a + 4) a = a + 4; rw [va_up_ne _ _ hna]; exact h2))
    refine h s2 (va_up τ σ.2.1 (a + 4)) σ.2.1 (cap + max 1 (cap / 2)) _ le2 ⟨w2.1, by rw [va_up_ne _ _ hna]; exact h2, h3, w2.ne w1.at (Ne.symm hna), by omega, by omega, fun i hi => ?_, Or.inr ⟨va_up_self _ _ _, hK.1, ?_, by omega⟩⟩ (by omega) ?_ ?_
    · show (if i < cap then f i else none) = _
      rw [if_pos (by omega)]
      exact h7 i hi
    · obtain ⟨f', g1, _⟩ := hK.2.1
      exact Ne.symm (w1.nn g1)
    · rw [w2.2.2]
      have := w1.2.2.2.2.2.1
      omega
    · rw [w2.2.2]
      have := w1.2.2.2.2.2.2
      omega
theorem zc_133 (hx : zc_lx G σ τ a len E mc arr cap f) (hl : len < 100000) (hfull : len = cap) (hK : zc_K G σ τ) (hob : ∀ i, i < len → zc_ob σ (E i)) (hc : 1 ≤ σ.2.2.1) (hk : 2 * len + 10 ≤ σ.2.2.2) (h : ∀ s u arr' cap' f', zo_le (· = a + 4) σ τ s u → zc_lx G s u a len E mc arr' cap' f' → len < cap' → σ.2.2.1 ≤ s.2.2.1 + 1 → σ.2.2.2 ≤ s.2.2.2 + (2 * len + 10) → Q (some (va_rf (some arr'))) s) : zCall G (n + 5) 133 [.ref a] Q Y σ := by
  refine ze133 ⟨_, rfl, ?_⟩
  refine zo_gI hx.1 rfl (zo_rc hx.1 ?_)
  rw [nI_1]
  exact zc_134 hx hl hfull hK hob hc hk fun s u arr' cap' f' a1 a2 a3 a4 a5 => zqR_r.mpr (h s u arr' cap' f' a1 a2 a3 a4 a5)
theorem zc_ob.le (h : zc_ob σ e) (hle : zo_le O σ τ σ' τ') (hO : ¬ O (τ e)) : zc_ob σ' e := by
  obtain ⟨ci, fs, h1, h2⟩ := h
  exact ⟨ci, fs, h1, hle.at h2 hO⟩
/-- storing behind the last element -/
theorem zc_132e {K : zS → Prop} (hx : zc_lx G σ τ a len E mc arr cap f) (hl : len < 100000) (hlt : len < cap) (he : zc_ob σ e) (h : ∀ s, zo_le (· = a + 4) σ τ s τ → zc_li G s τ a (len + 1) (va_up E len e) → s.2 = σ.2 → K s) : zsR σ G.1 4 [0, 1, 2, 3, 4, 5, 6, 7, 8, 9, 10, 11, 12, 13, 14, 15, 16, 17, 18, 19, 20, 21, 22, 23, 24, 25, 26, 27, 28, 29, 30] (some arr) (nI len) (some e) (fun s18 => zput s18 G.1 (some a) 2 2 (.int (nI len + (1))) (fun s20 => K s20)) := by
  obtain ⟨h1, h2, h3, h4, h5, h6, h7, h8⟩ := hx
  obtain ⟨ci, fs, g1, g2⟩ := he
  have hne : arr ≠ a := fun e => by
    rw [e, h1] at h4
    cases h4
  rcases h8 with ⟨_, h9⟩ | ⟨h8, h9, h10, h11⟩
  · omega
  · refine zo_sR h4 h9 hlt (by omega) (Or.inr ⟨e, ci, fs, rfl, zc_m30 g1, g2⟩) fun s1 w1 => ?_
    refine zo_put (w1.ne h1 (Ne.symm hne)) h3 rfl fun s2 w2 => ?_
    refine h s2 ((w1.le h4 (by show τ arr = a + 4; exact h8)).trans (w2.le (w1.ne h1 (Ne.symm hne)) (by show τ a = a + 4; exact h2))) ?_ (by rw [w2.2.2, w1.2.2])
    refine ⟨mc, arr, cap, _, ?_, h2, h3, w2.ne w1.1 hne, by omega, by omega, fun i hi => ?_, Or.inr ⟨h8, h9, h10, h11⟩⟩
    · have := w2.1
      rw [nI_1] at this
      exact this
    · show va_up f len (some e) i = _
      by_cases hi' : i = len
      · subst hi'
        rw [va_up_self, va_up_self]
      · rw [va_up_ne _ _ hi', va_up_ne _ _ hi']
        exact h7 i (by omega)
theorem zc_131 (hL : zc_li G σ τ a len E) (hl : len < 100000) (hK : zc_K G σ τ) (hob : ∀ i, i < len → zc_ob σ (E i) ∧ τ (E i) ≠ a + 4) (he : zc_ob σ e) (het : τ e ≠ a + 4) (hc : 1 ≤ σ.2.2.1) (hk : 2 * len + 10 ≤ σ.2.2.2) (h : ∀ s u, zo_le (· = a + 4) σ τ s u → zc_li G s u a (len + 1) (va_up E len e) → σ.2.2.1 ≤ s.2.2.1 + 1 → σ.2.2.2 ≤ s.2.2.2 + (2 * len + 10) → Q (some (.int 1)) s) : zCall G (n + 7) 131 [.ref a, va_rf (some e)] Q Y σ := by
  obtain ⟨mc, arr, cap, f, hx⟩ := hL
  have hx : zc_lx G σ τ a len E mc arr cap f := hx
  have h1 := hx.1
  have h2 := hx.2.1
  have h3 := hx.2.2.1
  have h4 := hx.2.2.2.1
  have hne : arr ≠ a := fun e => by
    rw [e, h1] at h4
    cases h4
  refine ze131 ⟨_, _, rfl, ?_⟩
  refine zo_gI h1 rfl (zo_put h1 h3 rfl fun s1 w1 => ?_)
  have le1 : zo_le (· = a + 4) σ τ s1 τ := w1.le h1 (by show τ a = a + 4; exact h2)
  have h11 : s1.1 a = some (.inr (2, [.int (mc + 1), va_rf (some arr), .int (nI len)])) := w1.1
  have hx1 : zc_lx G s1 τ a len E (mc + 1) arr cap f := ⟨h11, h2, h3, w1.ne h4 hne, hx.2.2.2.2⟩
  have hK1 : zc_K G s1 τ := hK.mono le1 (by show ¬ 0 = a + 4; omega)
  have c1 : s1.2 = σ.2 := w1.2.2
  refine zo_gR h11 rfl (zo_gI h11 rfl (zo_rc h11 ?_))
  refine ze132 ⟨_, _, _, _, rfl, ?_⟩
  refine zo_ln hx1.2.2.2.1 ?_
  have ec : nI len = nI cap ↔ len = cap := nI_eq (by have := hx.2.2.2.2.2.1; omega) (by have := hx.2.2.2.2.2.1; omega)
  rw [ec]
  refine zJ_go (fun (j : Option Nat → zS → Prop) => ∀ s u mc' arr' cap' f', zo_le (· = a + 4) σ τ s u → zc_lx G s u a len E mc' arr' cap' f' → len < cap' → σ.2.2.1 ≤ s.2.2.1 + 1 → σ.2.2.2 ≤ s.2.2.2 + (2 * len + 10) → j (some arr') s) ?_ ?_
  · intro s u mc' arr' cap' f' a1 a2 a3 a4 a5
    refine zc_132e a2 hl a3 (he.le a1 het) fun s2 b1 b2 b3 => zqV_r.mpr ⟨Or.inr rfl, h s2 u (a1.trans b1) b2 (by rw [b3]; exact a4) (by rw [b3]; exact a5)⟩
  · intro j hj
    refine ⟨fun hn => hj s1 τ _ arr cap f le1 hx1 (by have := hx.2.2.2.2.1; omega) (by rw [c1]; omega) (by rw [c1]; omega), fun hy => ?_⟩
    refine zo_rc h11 ?_
    refine zc_133 hx1 hl hy hK1 (fun i hi => (hob i hi).1.le le1 (hob i hi).2) (by rw [c1]; exact hc) (by rw [c1]; exact hk) fun s u arr' cap' f' a1 a2 a3 a4 a5 => zqR_r.mpr (hj s u _ arr' cap' f' (le1.trans a1) a2 a3 (by rw [c1] at a4; exact a4) (by rw [c1] at a5; exact a5))
theorem zc_135 (hL : zc_li G σ τ a len E) (hl : len < 100000) (hi : i < len) (he : zc_ob σ e) (h : ∀ s, zo_le (· = a + 4) σ τ s τ → zc_li G s τ a len (va_up E i e) → s.2 = σ.2 → Q (some (va_rf (some (E i)))) s) : zCall G (n + 3) 135 [.ref a, .int (nI i), va_rf (some e)] Q Y σ := by
  have hL' := hL
  obtain ⟨mc, arr, cap, f, h1, h2, h3, h4, h5, h6, h7, h8⟩ := hL
  obtain ⟨ci, fs, g1, g2⟩ := he
  have hne : arr ≠ a := fun e => by
    rw [e, h1] at h4
    cases h4
  refine ze135 ⟨_, _, _, rfl, ?_⟩
  refine zo_gI h1 rfl (zc_454 hi (by omega) (zqI_r.mpr (zo_rc h1 (zc_130 hL' (by omega) hi (zqR_r.mpr ?_)))))
  rcases h8 with ⟨_, h9⟩ | ⟨h8, h9, h10, h11⟩
  · omega
  · refine zo_gR h1 rfl (zo_sR h4 h9 (by omega) (by omega) (Or.inr ⟨e, ci, fs, rfl, zc_m30 g1, g2⟩) fun s1 w1 => ?_)
    refine h s1 (w1.le h4 (by show τ arr = a + 4; exact h8)) ⟨mc, arr, cap, _, w1.ne h1 (Ne.symm hne), h2, h3, w1.1, h5, h6, fun j hj => ?_, Or.inr ⟨h8, h9, h10, h11⟩⟩ w1.2.2
    show va_up f i (some e) j = _
    by_cases hj' : j = i
    · subst hj'
      rw [va_up_self, va_up_self]
    · rw [va_up_ne _ _ hj', va_up_ne _ _ hj']
      exact h7 j hj
def zc_rm (E : Nat → Nat) (i : Nat) : Nat → Nat := fun j => if j < i then E j else E (j + 1)
theorem zc_136 (hL : zc_li G σ τ a (len + 1) E) (hl : len < 100000) (hi : i < len + 1) (hob : ∀ i, i < len + 1 → zc_ob σ (E i) ∧ τ (E i) ≠ a + 4) (h : ∀ s, zo_le (· = a + 4) σ τ s τ → zc_li G s τ a len (zc_rm E i) → s.2 = σ.2 → Q (some (va_rf (some (E i)))) s) : zCall G (n + 3) 136 [.ref a, .int (nI i)] Q Y σ := by
  obtain ⟨mc, arr, cap, f, h1, h2, h3, h4, h5, h6, h7, h8⟩ := hL
  have hne : arr ≠ a := fun e => by
    rw [e, h1] at h4
    cases h4
  have hne' : a ≠ arr := Ne.symm hne
  refine ze136 ⟨_, _, rfl, ?_⟩
  refine zo_gI h1 rfl (zc_454 hi (by omega) (zqI_r.mpr (zo_gR h1 rfl (zo_aR h4 (by omega) (by omega) (zo_rc h1 ?_)))))
  rw [h7 i hi]
  rcases h8 with ⟨_, h9⟩ | ⟨h8, h9, h10, h11⟩
  · omega
  · refine ze137 ⟨_, _, _, rfl, ?_⟩
    refine zo_gI h1 rfl (zo_put h1 h3 rfl fun s1 w1 => ?_)
    have k1 : s1.1 a = some (.inr (2, [.int (mc + 1), va_rf (some arr), .int (nI (len + 1))])) := w1.1
    have k4 := w1.ne h4 hne
    have le1 : zo_le (· = a + 4) σ τ s1 τ := w1.le h1 (by show τ a = a + 4; exact h2)
    have el : nI (len + 1) - 1 = nI len := zn_sub (b := 1) (by omega)
    refine zo_gI k1 rfl ?_
    rw [el]
    refine zJ_go (fun (j : zS → Prop) => ∀ s g, zo_w arr (.inl (4, cap, zo_rf g)) s1 s → (∀ j, j < len → g j = some (zc_rm E i j)) → j s) ?_ ?_
    · intro s g w2 hg
      have m1 := w2.ne k1 hne'
      refine zo_put m1 h3 rfl fun s3 w3 => ?_
      refine zo_sR (w3.ne w2.1 hne) h9 (p := len) (by omega) (by omega) (Or.inl rfl) fun s4 w4 => zqV_r.mpr ?_
      refine h s4 (((le1.trans (w2.le k4 (by show τ arr = a + 4; exact h8))).trans (w3.le m1 (by show τ a = a + 4; exact h2))).trans (w4.le (w3.ne w2.1 hne) (by show τ arr = a + 4; exact h8))) ⟨mc + 1, arr, cap, _, w4.ne w3.1 hne', h2, h3, w4.1, by omega, h6, fun j hj => ?_, Or.inr ⟨h8, h9, h10, h11⟩⟩ (by rw [w4.2.2, w3.2.2, w2.2.2, w1.2.2])
      · show va_up g len none j = _
        rw [va_up_ne _ _ (by omega)]
        exact hg j hj
    · intro j hj
      have ele : nI len ≤ nI i ↔ len ≤ i := nI_leI (by omega) (by omega)
      rw [ele]
      refine ⟨fun h9' => hj s1 f ⟨k4, fun _ _ => rfl, rfl⟩ fun j' hj' => ?_, fun h9' => ?_⟩
      · rw [h7 j' (by omega)]
        unfold zc_rm
        rw [if_pos (by omega)]
      · have e1 : nI i + 1 = nI (i + 1) := nI_1 i
        have e2 : nI len - nI i = nI (len - i) := zn_sub (by omega)
        rw [e1, e2]
        have c1 : (nI (i + 1)).toNatClampNeg = i + 1 := nI_cl (by omega)
        have c2 : (nI i).toNatClampNeg = i := nI_cl (by omega)
        have c3 : (nI (len - i)).toNatClampNeg = len - i := nI_cl (by omega)
        refine ⟨arr, arr, cap, cap, zo_rf f, zo_rf f, zo_rf (fun j => if i ≤ j ∧ j < len then f (j + 1) else f j), rfl, rfl, h9, k4, k4, nI_pos (by omega), nI_pos (by omega), nI_pos (by omega), by rw [c1, c3]; omega, by rw [c2, c3]; omega, ?_, ?_, ?_⟩
        · rw [c1, c3]
          intro j' hj'
          refine zc_cpv (f := fun j => f (i + 1 + j)) (x := len - i) (fun j2 hj2 => ?_) j' hj'
          exact ⟨E (i + 1 + j2), h7 _ (by omega), (hob _ (by omega)).1.le le1 (hob _ (by omega)).2⟩
        · rw [c1, c2, c3]
          intro j' hj'
          show va_rf (if i ≤ j' ∧ j' < len then f (j' + 1) else f j') = _
          by_cases hc : i ≤ j' ∧ j' < len
          · rw [if_pos hc, if_pos (by omega), show i + 1 + (j' - i) = j' + 1 by omega]
            rfl
          · rw [if_neg hc, if_neg (by omega)]
            rfl
        · intro s hs
          subst hs
          refine hj _ _ ⟨zup_s _ _ _, fun b hb => zup_n hb, rfl⟩ fun j' hj' => ?_
          unfold zc_rm
          by_cases hc : j' < i
          · rw [if_neg (by omega), if_pos hc]
            exact h7 j' (by omega)
          · rw [if_pos (by omega), if_neg hc]
            exact h7 (j' + 1) (by omega)
end ZC2
