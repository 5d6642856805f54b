/-! Sums over sets: the component's Sums -/
theorem zs_sm_tz {V : zs_V} {f s : Nat} (hs : s < 1024) (h0 : s ≠ 0) : ∀ k, k ≤ 10 → zs_sm V f s k = zs_sm V f (s &&& (s - 1)) k + (if zs_tz s < k then zs_p V (zs_tz s) f else 0)
  | 0, _ => by simp [zs_sm]
  | k + 1, hk => by
    obtain ⟨h1, h2, h3, h4⟩ := zs_tz_ok s hs h0
    have ih := zs_sm_tz (V := V) (f := f) hs h0 k (by omega)
    simp only [zs_sm, ih, h4 k (by omega)]
    by_cases he : k = zs_tz s
    · rw [he, if_neg (Nat.lt_irrefl _), h1, if_pos (Nat.lt_succ_self _)]
      simp
    · have hb : (k == zs_tz s) = false := by simp [he]
      rw [hb]
      simp only [Bool.not_false, Bool.and_true]
      by_cases hlt : zs_tz s < k
      · rw [if_pos hlt, if_pos (show zs_tz s < k + 1 by omega)]
        exact Int.add_right_comm _ _ _
      · rw [if_neg hlt, if_neg (show ¬ zs_tz s < k + 1 by omega), Int.add_zero, Int.add_zero]
theorem zs_w_tz {V : zs_V} (hV : zs_ok V) {f s : Nat} (hs : s < zs_all V) (h0 : s ≠ 0) : zs_tz s < zs_n V ∧ zs_w V f s = zs_w V f (s &&& (s - 1)) + zs_p V (zs_tz s) f := by
  have hA := hV.all
  have hn := hV.n0.2
  have h1 := zs_tz_ok s (by omega) h0
  have h2 : zs_tz s < zs_n V := by
    apply Classical.byContradiction
    intro h9
    have h3 : s.testBit (zs_tz s) = false := by
      refine Nat.testBit_lt_two_pow (Nat.lt_of_lt_of_le hs ?_)
      exact Nat.pow_le_pow_right (by omega) (by omega)
    rw [h3] at h1
    cases h1.1
  refine ⟨h2, ?_⟩
  have := zs_sm_tz (V := V) (f := f) (by omega) h0 (zs_n V) hn
  rw [if_pos h2] at this
  exact this
/-- a Sums object, all but whose it is -/
def zc_sx0 (σ : zS) (τ : Nat → Nat) (S : Nat) (V : zs_V) : Prop := ∃ o g, σ.1 S = some (.inr (14, [va_rf (some o)])) ∧ σ.1 o = some (.inl (5, 4, zo_rf g)) ∧ τ o = 0 ∧ ∀ f, f < 4 → ∃ b fn, g f = some b ∧ σ.1 b = some (.inl (0, zs_all V, .inl fn)) ∧ τ b = 0 ∧ ∀ p, p < zs_all V → fn p = iI (zs_w V f p)
def zc_sm (σ : zS) (τ : Nat → Nat) (S : Nat) (V : zs_V) : Prop := τ S = 0 ∧ zc_sx0 σ τ S V
/-- the items of a list -/
def zc_its (G : zPg) (σ : zS) (τ : Nat → Nat) (V : zs_V) (E : Nat → Nat) : Prop := ∀ k, k < zs_n V → zc_it G σ τ (E k) (fun j => V (11 + 4 * k + j))
section ZC4
variable {G : zPg} {n : Nat} {σ σ' : zS} {τ τ' : Nat → Nat} {Q : zQ} {Y : zY} {S t li : Nat} {E : Nat → Nat} {O : Nat → Prop} {V : zs_V}
theorem zc_its.mono (h : zc_its G σ τ V E) (hle : zo_le O σ τ σ' τ') (h0 : ¬ O 0) : zc_its G σ' τ' V E := fun k hk => (h k hk).mono hle h0
theorem zc_sm.mono (h : zc_sm σ τ S V) (hle : zo_le O σ τ σ' τ') (h0 : ¬ O 0) : zc_sm σ' τ' S V := by
  obtain ⟨h1, o, g, h2, h3, h4, h5⟩ := h
  refine ⟨(hle.at' h2 h1 h0).2, o, g, (hle.at' h2 h1 h0).1, (hle.at' h3 h4 h0).1, (hle.at' h3 h4 h0).2, fun f hf => ?_⟩
  obtain ⟨b, fn, k1, k2, k3, k4⟩ := h5 f hf
  exact ⟨b, fn, k1, (hle.at' k2 k3 h0).1, (hle.at' k2 k3 h0).2, k4⟩
theorem zc_sm.rc (h : zc_sm σ τ S V) {K : Nat → Prop} (hk : K S) : zrc σ (some S) 14 K := by
  obtain ⟨h1, o, g, h2, _⟩ := h
  exact zo_rc h2 hk
/-- a sum is read -/
theorem zc_sm.at (h : zc_sm σ τ S V) (hV : zs_ok V) {f p : Nat} (hf : f < 4) (hp : p < zs_all V) {K : Int32 → Prop} (hk : K (iI (zs_w V f p))) : zgR σ (some S) 14 0 (fun v => zaR σ 5 v (nI f) (fun v' => zaI σ 0 v' (nI p) K)) := by
  have hA := hV.all
  obtain ⟨h1, o, g, h2, h3, h4, h5⟩ := h
  obtain ⟨b, fn, k1, k2, k3, k4⟩ := h5 f hf
  refine zo_gR h2 rfl (zo_aR h3 hf (by omega) ?_)
  rw [k1]
  refine zo_aI k2 hp (by omega) ?_
  rw [k4 p hp]
  exact hk
theorem zc_453 (h : zc_sm σ τ S V) (hV : zs_ok V) {p : Nat} (hp : p < zs_all V) (hq : Q (some (.int (iI (zs_w V 0 p)))) σ) : zCall G (n + 1) 453 [.ref S, .int (nI p)] Q Y σ := by
  refine ze453 ⟨_, _, rfl, ?_⟩
  exact h.at hV (f := 0) (by omega) hp hq
theorem zc_452 (h : zc_sm σ τ S V) (hV : zs_ok V) (hq : Q (some (.int (nI (zs_all V)))) σ) : zCall G (n + 1) 452 [.ref S] Q Y σ := by
  obtain ⟨h1, o, g, h2, h3, h4, h5⟩ := h
  obtain ⟨b, fn, k1, k2, k3, k4⟩ := h5 0 (by omega)
  refine ze452 ⟨_, rfl, ?_⟩
  refine zo_gR h2 rfl (zo_aR (p := 0) h3 (by omega) (by omega) ?_)
  rw [k1]
  exact zo_ln k2 hq
/-- Sums is made: S is temp (its tag 3) while it is made -/
theorem zc_451 (hK : zc_K G σ τ) (hV : zs_ok V) (hS : σ.1 S = some (.inr (14, [va_rf none]))) (hg : G.1 ≤ S) (hts : τ S = 3) (hL : zc_li G σ τ li (zs_n V) E) (hI : zc_its G σ τ V E) (hc : 5 ≤ σ.2.2.1) (hk : 4100 ≤ σ.2.2.2) (h : ∀ s u, zo_ad (· = S) σ τ s u → zc_sx0 s u S V → σ.2.2.1 ≤ s.2.2.1 + 5 → σ.2.2.2 ≤ s.2.2.2 + 4100 → Q none s) : zCall G (n + 4) 451 [.ref S, va_rf (some li)] Q Y σ := by
  have hA := hV.all
  obtain ⟨hn1, hn2⟩ := hV.n0
  refine ze451 ⟨_, _, rfl, ⟨_, rfl, zc_rc2 hL (zc_128 hL (zqI_r.mpr ?_))⟩⟩
  have e1 : (1 : Int32) <<< (nI (zs_n V) &&& 31) = nI (zs_all V) := zn_shl _ (by omega)
  rw [e1]
  have c4 : (4 : Int32).toNatClampNeg = 4 := by decide
  have cA : (nI (zs_all V)).toNatClampNeg = zs_all V := nI_cl (by omega)
  refine ⟨by decide, nI_pos (by omega), by rw [c4]; omega, by rw [cA]; omega, by rw [c4]; omega, by rw [c4, cA]; omega, ?_⟩
  rw [c4, cA]
  intro hfr s1 hs1
  have hga := hK.1
  have m1 : ∀ q, s1.1 q = if σ.2.1 < q ∧ q ≤ σ.2.1 + 4 then some (.inl (0, zs_all V, .inl (fun _ => 0))) else if q = σ.2.1 then some (.inl (5, 4, zo_rf (fun i => some (σ.2.1 + 1 + i)))) else σ.1 q := fun q => by rw [hs1]; rfl
  have b1 : s1.2 = (σ.2.1 + 1 + 4, σ.2.2.1 - (1 + 4), σ.2.2.2 - (4 + 4 * zs_all V)) := by rw [hs1]
  have ha0 : σ.2.1 = s1.2.1 - 5 := by rw [b1]; show _ = σ.2.1 + 1 + 4 - 5; omega
  have hc1 : σ.2.2.1 ≤ s1.2.2.1 + 5 := by rw [b1]; show _ ≤ σ.2.2.1 - (1 + 4) + 5; omega
  have hk1 : σ.2.2.2 ≤ s1.2.2.2 + 4100 := by rw [b1]; show _ ≤ σ.2.2.2 - (4 + 4 * zs_all V) + 4100; omega
  have hsz : σ.2.1 ≤ s1.2.1 := by rw [b1]; show σ.2.1 ≤ σ.2.1 + 1 + 4; omega
  clear hs1 b1 ha0
  generalize hA0 : σ.2.1 = a at *
  have hSa : S < a := by
    apply Classical.byContradiction
    intro h9
    rw [hfr S (by omega)] at hS
    cases hS
  have mo : s1.1 a = some (.inl (5, 4, zo_rf (fun i => some (a + 1 + i)))) := by
    rw [m1, if_neg (by omega), if_pos rfl]
  have mr : ∀ f, f < 4 → s1.1 (a + 1 + f) = some (.inl (0, zs_all V, .inl (fun _ => 0))) := fun f hf => by rw [m1, if_pos (by omega)]
  have mk : ∀ q e, σ.1 q = some e → s1.1 q = some e ∧ q < a := fun q e hq => by
    have hlt : q < a := by
      apply Classical.byContradiction
      intro h9
      rw [hfr q (by omega)] at hq
      cases hq
    exact ⟨by rw [m1, if_neg (by omega), if_neg (by omega)]; exact hq, hlt⟩
  have hnt : ∀ q e, s1.1 q = some e → σ.1 q = none → (if q < a then τ q else 0) < 4 := fun q e hq hq0 => by
    by_cases hlt : q < a
    · rw [m1, if_neg (by omega), if_neg (by omega), hq0] at hq
      cases hq
    · rw [if_neg hlt]
      omega
  have le1 : zo_ad (· = S) σ τ s1 (fun q => if q < a then τ q else 0) := ⟨by rw [hA0]; exact hsz, fun q e hq hq0 => Or.inl (hnt q e hq hq0), fun q e hq => ⟨e, (mk q e hq).1, if_pos (mk q e hq).2, Or.inr rfl⟩⟩
  have hS1 := (mk S _ hS).1
  refine zo_put hS1 hg rfl fun s2 w2 => ?_
  have le2 : zo_ad (· = S) σ τ s2 (fun q => if q < a then τ q else 0) := le1.trans (w2.ad (A := (· = S)) hS1 rfl) (fun _ _ _ h => h)
  have hS2 : s2.1 S = some (.inr (14, [va_rf (some a)])) := w2.1
  have start : ∃ fn : Nat → Nat → Int32, (∀ f, f < 4 → s2.1 (a + 1 + f) = some (.inl (0, zs_all V, .inl (fn f)))) ∧ ∀ f p, f < 4 → p < zs_all V → ((f < 0 ∨ (f = 0 ∧ p < 1)) ∨ p = 0) → fn f p = iI (zs_w V f p) := by
    refine ⟨fun _ _ => 0, fun f hf => w2.ne (mr f hf) (by omega), fun f p hf hp hh => ?_⟩
    have hp0 : p = 0 := by omega
    rw [hp0, zs_w0]
    rfl
  have hmo2 : s2.1 a = some (.inl (5, 4, zo_rf (fun i => some (a + 1 + i)))) := w2.ne mo (by omega)
  have hc2 : σ.2.2.1 ≤ s2.2.2.1 + 5 := by rw [w2.2.2]; exact hc1
  have hk2 : σ.2.2.2 ≤ s2.2.2.2 + 4100 := by rw [w2.2.2]; exact hk1
  clear w2 m1 mo mr hS1 le1 hc1 hk1 hsz
  refine zf2 0 4 (fun k s' => zo_ad (· = S) σ τ s' (fun q => if q < a then τ q else 0) ∧ s'.2 = s2.2 ∧ s'.1 S = some (.inr (14, [va_rf (some a)])) ∧ s'.1 a = some (.inl (5, 4, zo_rf (fun i => some (a + 1 + i)))) ∧ ∃ fn : Nat → Nat → Int32, (∀ f, f < 4 → s'.1 (a + 1 + f) = some (.inl (0, zs_all V, .inl (fn f)))) ∧ ∀ f p, f < 4 → p < zs_all V → ((f < k ∨ (f = k ∧ p < 1)) ∨ p = 0) → fn f p = iI (zs_w V f p)) (by omega) ?_ ?_ ⟨le2, rfl, hS2, hmo2, start⟩
  · rintro rec k s' _ hk4 ⟨a1, a2, a3, a4, a5⟩ hrec
    refine ⟨fun h9 => absurd h9 (nI_ge (b := 4) hk4 (by omega)), fun _ => ?_⟩
    refine zf2 1 (zs_all V) (fun p0 s' => zo_ad (· = S) σ τ s' (fun q => if q < a then τ q else 0) ∧ s'.2 = s2.2 ∧ s'.1 S = some (.inr (14, [va_rf (some a)])) ∧ s'.1 a = some (.inl (5, 4, zo_rf (fun i => some (a + 1 + i)))) ∧ ∃ fn : Nat → Nat → Int32, (∀ f, f < 4 → s'.1 (a + 1 + f) = some (.inl (0, zs_all V, .inl (fn f)))) ∧ ∀ f p, f < 4 → p < zs_all V → ((f < k ∨ (f = k ∧ p < p0)) ∨ p = 0) → fn f p = iI (zs_w V f p)) (by omega) ?_ ?_ ⟨a1, a2, a3, a4, a5⟩
    · rintro rec2 p0 s3 hp1 hp2 ⟨c1, c2, c3, c4', fn, c5, c6⟩ hrec2
      have le3 : zo_le (· = 3) σ τ s3 (fun q => if q < a then τ q else 0) := c1.toLe fun b hb => by
        have hb : b = S := hb
        rw [hb]
        exact hts
      refine zo_gR c3 rfl (zo_aR c4' hk4 (by omega) (zo_ln (c5 k hk4) ⟨fun h9 => absurd h9 (nI_ge hp2 (by omega)), fun _ => ?_⟩))
      refine zc_431 (by omega) (by omega) (zqI_r.mpr ?_)
      refine zo_gR c3 rfl (zo_aR c4' hk4 (by omega) (zo_gR c3 rfl (zo_aR c4' hk4 (by omega) ?_)))
      obtain ⟨z1, z2, z3, z4⟩ := zs_tz_ok p0 (by omega) (by omega)
      obtain ⟨y1, y2⟩ := zs_w_tz hV (f := k) hp2 (by omega)
      have ea : nI p0 &&& (nI p0 - 1) = nI (p0 &&& (p0 - 1)) := by
        rw [show nI p0 - 1 = nI (p0 - 1) from zn_sub (b := 1) (by omega), nx_and]
      rw [ea]
      refine zo_aI (c5 k hk4) (by omega) (by omega) ?_
      have hL3 := hL.mono hK le3 (by omega) (by omega)
      obtain ⟨pp, ff, i1, i2, i3, i4, i5, i6⟩ := (hI.mono le3 (by omega)) (zs_tz p0) y1
      refine zc_rc2 hL3 (zc_129 hL3 (by omega) y1 (zqR_r.mpr ⟨Or.inr ⟨_, _, _, rfl, by decide, i1⟩, zo_gR i1 rfl (zo_aI i3 hk4 (by omega) ?_)⟩))
      refine zo_sI (c5 k hk4) (by omega) hp2 (by omega) fun s4 w4 v hv => ?_
      subst hv
      have hfa : σ.1 (a + 1 + k) = none := hfr _ (by omega)
      refine hrec2 s4 ⟨c1.new hfa (c5 k hk4) w4, by rw [w4.2.2]; exact c2, w4.ne c3 (by omega), w4.ne c4' (by omega), fun f => if f = k then va_up (fn k) p0 (fn k (p0 &&& (p0 - 1)) + ff k) else fn f, fun f hf => ?_, fun f p hf hp hh => ?_⟩
      · dsimp only
        by_cases hfk : f = k
        · subst hfk
          rw [if_pos rfl]
          exact w4.1
        · rw [if_neg hfk]
          exact w4.ne (c5 f hf) (by omega)
      · dsimp only
        by_cases hfk : f = k
        · subst hfk
          rw [if_pos rfl]
          by_cases hpp : p = p0
          · subst hpp
            rw [va_up_self, c6 f _ hf (by omega) (Or.inl (Or.inr ⟨rfl, z3⟩)), i6 f hk4, y2, ← iI_add]
            congr 1
            exact (iI_of _).symm
          · rw [va_up_ne _ _ hpp]
            exact c6 f p hf hp (by omega)
        · rw [if_neg hfk]
          exact c6 f p hf hp (by omega)
    · rintro rec2 s3 ⟨c1, c2, c3, c4', fn, c5, c6⟩
      refine zo_gR c3 rfl (zo_aR c4' hk4 (by omega) (zo_ln (c5 k hk4) ⟨fun _ v hv => ?_, fun h9 => absurd (nI_le (Nat.le_refl _) (by omega)) h9⟩))
      subst hv
      exact hrec s3 ⟨c1, c2, c3, c4', fn, c5, fun f p hf hp hh => c6 f p hf hp (by omega)⟩
  · rintro rec s' ⟨a1, a2, a3, a4, fn, a5, a6⟩
    refine ⟨fun _ => h s' _ a1 ⟨a, _, a3, a4, if_neg (Nat.lt_irrefl _), fun f hf => ⟨a + 1 + f, fn f, rfl, a5 f hf, if_neg (by omega), fun p hp => a6 f p hf hp (Or.inl (Or.inl hf))⟩⟩ (by rw [a2]; exact hc2) (by rw [a2]; exact hk2), fun h9 => absurd (nI_le (a := 4) (Nat.le_refl _) (by omega)) h9⟩
end ZC4
