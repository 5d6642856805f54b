/-! THE COMPONENT's State: sums, what fits -/
section ZC6
variable {L : Nat × Nat × Nat} {G : zPg} {n : Nat} {σ σ' σ'' : zS} {τ τ' τ'' : Nat → Nat} {Q : zQ} {Y : zY} {s a e q C K : Nat} {V : zs_V} {W W' W'' : zc_W}
theorem zc_p1 (S : Nat) (r : Option Nat × Option Nat × Option Nat) : zc_pc (none, r) = zc_pc (some S, r) + 6 ∧ zc_ps (none, r) = zc_ps (some S, r) + 4101 := by
  unfold zc_pc zc_ps
  simp only [if_true, reduceCtorEq, if_false]
  omega
theorem zc_P.cell (h : zc_P L G s V C K σ τ W q) : ∃ li lp la, σ.1 s = some (.inr (1, zc_fs li lp la V W)) ∧ τ s = s + 4 ∧ G.1 ≤ s := by
  obtain ⟨⟨li, lp, la, Ei, Ep, Ea, hs, hPt⟩, hB, hK⟩ := h
  exact ⟨li, lp, la, hs, hPt.1, hPt.2.1⟩
theorem zc_P.rc (h : zc_P L G s V C K σ τ W q) {F : Nat → Prop} (hF : F s) : zrc σ (some s) 1 F := by
  obtain ⟨li, lp, la, hs, _⟩ := h.cell
  exact zo_rc hs hF
theorem zc_83 (hV : zs_ok V) (hP : zc_P L G s V C K σ τ W q) (h : ∀ σ' τ' W' S, zc_go s σ τ W σ' τ' W' → zc_P L G s V C K σ' τ' W' q → W'.1 = some S → W'.2 = W.2 → zc_sm σ' τ' S V → Q (some (va_rf (some S))) σ') : zCall G (n + 5) 83 [.ref s] Q Y σ := by
  have hP' := hP
  obtain ⟨⟨li, lp, la, Ei, Ep, Ea, hs, hPt⟩, hB, hK⟩ := hP
  refine ze83 ⟨_, rfl, zo_gR hs rfl ?_⟩
  refine zJ_go (fun (j : zS → Prop) => ∀ σ' τ' W' S, zc_go s σ τ W σ' τ' W' → zc_P L G s V C K σ' τ' W' q → W'.1 = some S → W'.2 = W.2 → zc_sm σ' τ' S V → j σ') ?_ ?_
  · intro σ' τ' W' S a1 a2 a3 a4 a5
    obtain ⟨li', lp', la', hs', _⟩ := a2.cell
    refine zo_gR hs' rfl ?_
    rw [a3]
    exact h σ' τ' W' S a1 a2 a3 a4 a5
  · intro j hj
    clear h
    refine ⟨fun hne => ?_, fun he => ?_⟩
    · obtain ⟨S, hS⟩ : ∃ S, W.1 = some S := Option.ne_none_iff_exists'.mp hne
      exact hj σ τ W S zc_go.rfl' hP' hS rfl (hPt.2.2.2.2.2.2.2.2.2.2.2.1 S hS)
    · obtain ⟨W1, r⟩ := W
      have he : W1 = none := he
      subst he
      obtain ⟨b1, b2⟩ := hB
      obtain ⟨p1, p2⟩ := zc_p1 σ.2.1 r
      refine zo_new (by omega) (by omega) fun s1 w1 => ?_
      have h0 := w1.1
      have hg := hK.1
      have d1 := w1.2.2.2.2.2.1
      have d2 := w1.2.2.2.2.2.2
      generalize σ.2.1 = S at *
      have le1 : zo_le zo_no σ τ s1 (va_up τ S 3) := w1.le 3 (Or.inl (by omega))
      have no : ∀ x, ¬ zo_no x := fun x h => h
      refine zo_gR (w1.ne hs) rfl ⟨_, rfl, ?_⟩
      refine zc_451 (hK.mono le1 (no 0)) hV w1.at hg (va_up_self _ _ _) (hPt.2.2.2.2.2.1.mono hK le1 (no _) (no _)) (hPt.2.2.2.2.2.2.1.mono le1 (no _)) (by omega) (by omega) fun s2 u2 ad2 sx2 c2 k2 => zqV_r.mpr ?_
      have le2 : zo_le zo_no σ τ s2 u2 := le1.after ad2 h0
      have hs2 := le2.at hs (no _)
      refine zo_put hs2 hPt.2.1 rfl fun s3 w3 => ?_
      have leN : zo_le zo_no σ τ s2 (va_up u2 S 0) := le2.tag h0 0 (Or.inl (by omega))
      have hts : (va_up u2 S 0) s = s + 4 := (leN.tg hs).trans hPt.1
      have le3 : zo_le (· = s + 4) σ τ s3 (va_up u2 S 0) := (leN.wide (fun _ h => h.elim)).trans (w3.le hs2 hts)
      have sm3 : zc_sm s3 (va_up u2 S 0) S V := by
        obtain ⟨o, g, x1, x2, x3, x4⟩ := sx2
        have n1 : S ≠ s := fun e => by rw [e, hs2] at x1; cases x1
        have nS : ∀ b y, s2.1 b = some (.inl y) → b ≠ S ∧ b ≠ s := fun b y hb => ⟨fun e => (by rw [e, x1] at hb; cases hb), fun e => (by rw [e, hs2] at hb; cases hb)⟩
        refine ⟨va_up_self _ _ _, o, g, w3.ne x1 n1, w3.ne x2 (nS _ _ x2).2, by rw [va_up_ne _ _ (nS _ _ x2).1]; exact x3, fun f hf => ?_⟩
        obtain ⟨b, fn, y1, y2, y3, y4⟩ := x4 f hf
        exact ⟨b, fn, y1, w3.ne y2 (nS _ _ y2).2, by rw [va_up_ne _ _ (nS _ _ y2).1]; exact y3, y4⟩
      have P3 := hPt.tr (σ' := s3) (τ' := va_up u2 S 0) hV hK hts (fun b e hb hbs _ => ⟨w3.ne (leN.at hb (no _)) hbs, leN.tg hb⟩) ⟨_, hs⟩
      obtain ⟨q1, q2, q3, q4, q5, q6, q7, q8, q9, q10, q11, q12, q13, q14, q15⟩ := P3
      have c3 : s3.2 = s2.2 := w3.2.2
      refine hj s3 (va_up u2 S 0) (some S, r) S ⟨le3, fun h => absurd rfl h, fun _ => rfl, fun _ => rfl, fun _ => rfl⟩ ⟨⟨li, lp, la, Ei, Ep, Ea, w3.1, q1, q2, q3, q4, q5, q6, q7, q8, q9, q10, q11, fun S' hS' => ?_, q13, q14, q15⟩, ⟨?_, ?_⟩, hK.mono le3 (by omega)⟩ rfl rfl sm3
      · cases hS'
        exact sm3
      · rw [c3]
        omega
      · rw [c3]
        omega
theorem zc_27 {x : Int32} (h : Q (some (.int (if x = 0 then 0 else 1))) σ) : zCall G (n + 1) 27 [.int x] Q Y σ := by
  refine ze27 ⟨_, rfl, ?_⟩
  refine zJ_go (fun (j : Int32 → zS → Prop) => j (if x = 0 then 0 else 1) σ) h ?_
  intro j hj
  refine ⟨fun h9 => ?_, fun h9 => ?_⟩
  · rw [if_pos h9] at hj
    exact hj
  · rw [if_neg h9] at hj
    exact hj
theorem zc_27b {c : Prop} [Decidable c] (h : Q (some (.int (zs_b c))) σ) : zCall G (n + 1) 27 [.int (zs_b c)] Q Y σ := by
  refine zc_27 ?_
  by_cases hc : c
  · rw [zs_bt hc] at h ⊢
    exact h
  · rw [zs_bf hc] at h ⊢
    exact h
theorem zc_31 {p k : Nat} (hp : p < 2147483648) (hk : k < 32) (h : Q (some (.int (zs_b (p.testBit k = true)))) σ) : zCall G (n + 1) 31 [.int (nI p), .int (nI k)] Q Y σ := by
  refine ze31 ⟨_, _, rfl, ?_⟩
  refine zJ_go (fun (j : Int32 → zS → Prop) => j (zs_b (p.testBit k = true)) σ) ⟨zs_bb, h⟩ ?_
  intro j hj
  rw [zn_bit hp hk]
  refine ⟨fun h9 => ?_, fun h9 => ?_⟩
  · rw [zs_bf h9] at hj
    exact hj
  · rw [zs_bt h9] at hj
    exact hj
theorem zc_48 {x y z : Int64} (h : Q (some (.int (zs_b (y.toInt ≤ x.toInt ∧ x.toInt ≤ z.toInt)))) σ) : zCall G (n + 1) 48 [.long x, .long y, .long z] Q Y σ := by
  refine ze48 ⟨_, _, _, rfl, ?_⟩
  refine zJ_go (fun (j : Int32 → zS → Prop) => j (zs_b (y.toInt ≤ x.toInt ∧ x.toInt ≤ z.toInt)) σ) ⟨zs_bb, h⟩ ?_
  intro j hj
  refine zJ_go (fun (j' : zS → Prop) => ¬ (y.toInt ≤ x.toInt ∧ x.toInt ≤ z.toInt) → j' σ) ?_ ?_
  · intro hn
    rw [zs_bf hn] at hj
    exact hj
  · intro j' hj'
    have c1 : lg_cmp x y < 0 ↔ x.toInt < y.toInt := by
      rcases lc_cases x y with ⟨g1, g2⟩ | ⟨g1, g2⟩ | ⟨g1, g2⟩
      · rw [g1]
        exact ⟨fun h => absurd h (by decide), fun h => absurd h (by omega)⟩
      · rw [g1]
        exact ⟨fun h => absurd h (by decide), fun h => absurd h (by omega)⟩
      · rw [g1]
        exact ⟨fun _ => g2, fun _ => by decide⟩
    rw [c1, lc_gt]
    refine ⟨fun h9 => hj' (by omega), fun h9 => ⟨fun h8 => hj' (by omega), fun h8 => ?_⟩⟩
    rw [zs_bt (by omega)] at hj
    exact hj
theorem zc_fits {p : Nat} (hV : zs_ok V) {K' : Int32 → Prop} (h : K' (zs_b (zs_w V 0 p ≤ zs_cap V))) : ((V 1 < iI (zs_w V 0 p)) → K' 0) ∧ ((¬ V 1 < iI (zs_w V 0 p)) → K' 1) := by
  have hw := zs_w_b hV (f := 0) (by omega) p
  have hc := hV.c1
  have e : V 1 < iI (zs_w V 0 p) ↔ zs_cap V < zs_w V 0 p := by
    rw [zs_c1 V, iI_lt (by omega) (by omega) (by omega) (by omega)]
  rw [e]
  refine ⟨fun h9 => ?_, fun h9 => ?_⟩
  · rw [zs_bf (by omega)] at h
    exact h
  · rw [zs_bt (by omega)] at h
    exact h
theorem zc_84 (hV : zs_ok V) (hP : zc_P L G s V C K σ τ W q) {p : Nat} (hp : p < zs_all V) (h : ∀ σ' τ' W', zc_go s σ τ W σ' τ' W' → zc_P L G s V C K σ' τ' W' q → W'.2 = W.2 → Q (some (.int (zs_b (zs_w V 0 p ≤ zs_cap V)))) σ') : zCall G (n + 6) 84 [.ref s, .int (nI p)] Q Y σ := by
  refine ze84 ⟨_, _, rfl, hP.rc ?_⟩
  refine zc_83 hV hP fun σ' τ' W' S a1 a2 a3 a4 a5 => zqR_r.mpr ?_
  refine a5.rc (zc_453 a5 hV hp (zqI_r.mpr ?_))
  obtain ⟨li, lp, la, hs, _⟩ := a2.cell
  refine zo_gI hs rfl ?_
  refine zJ_go (fun (j : Int32 → zS → Prop) => j (zs_b (zs_w V 0 p ≤ zs_cap V)) σ') ⟨zs_bb, h σ' τ' W' a1 a2 a4⟩ ?_
  intro j hj
  exact zc_fits hV (K' := fun x => j x σ') hj
theorem zc_86 (hV : zs_ok V) (hP : zc_P L G s V C K σ τ W q) {p : Nat} (hp : p < zs_all V) (h : ∀ σ' τ' W', zc_go s σ τ W σ' τ' W' → zc_P L G s V C K σ' τ' W' q → W'.2 = W.2 → Q (some (.int (iI (zs_cap V - zs_w V 0 p)))) σ') : zCall G (n + 6) 86 [.ref s, .int (nI p)] Q Y σ := by
  obtain ⟨li, lp, la, hs, _⟩ := hP.cell
  refine ze86 ⟨_, _, rfl, zo_gI hs rfl (zo_rc hs ?_)⟩
  refine zc_83 hV hP fun σ' τ' W' S a1 a2 a3 a4 a5 => zqR_r.mpr ?_
  refine a5.rc (zc_453 a5 hV hp (zqI_r.mpr ?_))
  rw [zs_c1 V, iI_sub]
  exact h σ' τ' W' a1 a2 a4
theorem zc_109 (hV : zs_ok V) (hP : zc_P L G s V C K σ τ W q) {x : Int32} (h : ∀ σ' τ' W', zc_go s σ τ W σ' τ' W' → zc_P L G s V C K σ' τ' W' q → Q (some (.int (zs_b (0 ≤ x.toInt ∧ x.toInt < zs_all V)))) σ') : zCall G (n + 6) 109 [.ref s, .int x] Q Y σ := by
  have hA := hV.all
  refine ze109 ⟨_, _, rfl, hP.rc ?_⟩
  refine zc_83 hV hP fun σ' τ' W' S a1 a2 a3 a4 a5 => zqR_r.mpr ?_
  refine a5.rc (zc_452 a5 hV (zqI_r.mpr (zc_48 (zqI_r.mpr ?_))))
  have e1 : nI (zs_all V) - 1 = nI (zs_all V - 1) := zn_sub (b := 1) hA.1
  have e2 : (nI (zs_all V - 1)).toInt64.toInt = ((zs_all V - 1 : Nat) : Int) := by
    rw [Int32.toInt_toInt64, nI_toInt (by omega)]
  have e3 : x.toInt64.toInt = x.toInt := Int32.toInt_toInt64 x
  have e4 : (0 : Int64).toInt = 0 := by decide
  rw [e1, e2, e3, e4]
  have e5 : zs_b (0 ≤ x.toInt ∧ x.toInt ≤ ((zs_all V - 1 : Nat) : Int)) = zs_b (0 ≤ x.toInt ∧ x.toInt < zs_all V) := zs_bcong (by omega)
  rw [e5]
  exact ⟨zs_bb, h σ' τ' W' a1 a2⟩
theorem zc_94 (hP : zc_P L G s V C K σ τ W q) (hV : zs_ok V) {k f : Nat} (hk : k < zs_n V) (hf : f < 4) (h : Q (some (.int (V (11 + 4 * k + f)))) σ) : zCall G (n + 4) 94 [.ref s, .int (nI k), .int (nI f)] Q Y σ := by
  have hn := hV.n0.2
  obtain ⟨⟨li, lp, la, Ei, Ep, Ea, hs, hPt⟩, hB, hK⟩ := hP
  refine ze94 ⟨_, _, _, rfl, zo_gR hs rfl (zc_rc2 hPt.2.2.2.2.2.1 (zc_129 hPt.2.2.2.2.2.1 (by omega) hk (zqR_r.mpr ?_)))⟩
  obtain ⟨p, g, i1, i2, i3, i4, i5, i6⟩ := hPt.2.2.2.2.2.2.1 k hk
  refine ⟨Or.inr ⟨_, _, _, rfl, by decide, i1⟩, zo_gR i1 rfl (zo_aI i3 hf (by omega) ?_)⟩
  rw [i6 f hf]
  exact h
theorem zc_103 (hV : zs_ok V) (hP : zc_P L G s V C K σ τ W q) (h : ∀ σ' τ' W', zc_go s σ τ W σ' τ' W' → zc_P L G s V C K σ' τ' W' q → Q (some (.int (nI (zs_pm V)))) σ') : zCall G (n + 7) 103 [.ref s] Q Y σ := by
  have hA := hV.all
  refine ze103 ⟨_, rfl, ?_⟩
  refine zf3 0 (zs_all V) (fun k (x : Int32) s' => ∃ τ' W', zc_go s σ τ W s' τ' W' ∧ zc_P L G s V C K s' τ' W' q ∧ x = nI (zs_ct (fun s => zs_w V 0 s ≤ zs_cap V) k)) (by omega) ?_ ?_ ⟨τ, W, zc_go.rfl', hP, rfl⟩
  · rintro rec k x s' _ hk ⟨τ', W', a1, a2, rfl⟩ hrec
    refine a2.rc (zc_83 hV a2 fun s1 τ1 W1 S b1 b2 b3 b4 b5 => zqR_r.mpr (b5.rc (zc_452 b5 hV (zqI_r.mpr ?_))))
    refine ⟨fun h9 => absurd h9 (nI_ge hk (by omega)), fun _ => b2.rc (zc_84 hV b2 hk fun s2 τ2 W2 c1 c2 _ => zqI_r.mpr (zc_27b (zqI_r.mpr fun v hv => ?_)))⟩
    subst hv
    refine hrec _ _ ⟨τ2, W2, (a1.trans b1).trans c1, c2, ?_⟩
    by_cases h1 : zs_w V 0 k ≤ zs_cap V
    · simp only [zs_ct, if_pos h1, zs_bt h1]
      show nI _ + nI 1 = _
      rw [nI_add]
    · simp only [zs_ct, if_neg h1, zs_bf h1]
      show nI _ + nI 0 = _
      rw [nI_add]
  · rintro rec x s' ⟨τ', W', a1, a2, rfl⟩
    refine a2.rc (zc_83 hV a2 fun s1 τ1 W1 S b1 b2 b3 b4 b5 => zqR_r.mpr (b5.rc (zc_452 b5 hV (zqI_r.mpr ?_))))
    exact ⟨fun _ => h s1 τ1 W1 (a1.trans b1) b2, fun hn => absurd (nI_le (Nat.le_refl _) (by omega)) hn⟩
end ZC6
