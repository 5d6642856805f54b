/-! THE COMPONENT's State: its numbers of the game change; tastes again -/
theorem zs_sim.bet {V W : zs_V} (h : zs_sim V W) (hn : zs_n V ≤ 10) (g : Bool) (s t : Nat) : zs_bet W g s t = zs_bet V g s t := by
  unfold zs_bet
  rw [h.w hn (by omega), h.w hn (by omega), h.w hn (by omega), h.w hn (by omega), h 3 (by omega)]
theorem zs_sim.fil {V W : zs_V} (h : zs_sim V W) (hn : zs_n V ≤ 10) (g : Bool) (room : Int) (free : Nat) : ∀ q set best, zs_fil W g room free q set best = zs_fil V g room free q set best
  | 0, _, _ => rfl
  | q + 1, set, best => by
    simp only [zs_fil]
    rw [h.w hn (by omega), h.bet hn, zs_sim.fil h hn g room free q]
theorem zs_sim.best {V W : zs_V} (h : zs_sim V W) (hn : zs_n V ≤ 10) (g : Bool) (p : Nat) : zs_best W g p = zs_best V g p := by
  unfold zs_best
  rw [h.cap, h.w hn (by omega), h.all, h.fil hn]
/-- only the game's numbers differ -/
def zs_gm (V W : zs_V) : Prop := ∀ k, k < 6 ∨ (11 ≤ k ∧ k < 61) → W k = V k
theorem zs_gm.sim {V W : zs_V} (h : zs_gm V W) : zs_sim V W := fun k hk => h k (by omega)
theorem zs_gm.lc {V W : zs_V} (h : zs_gm V W) (b : Bool) : zs_lc W b = zs_lc V b := by
  unfold zs_lc
  cases b
  · show (W 5).toNatClampNeg = (V 5).toNatClampNeg
    rw [h 5 (by omega)]
  · show (W 4).toNatClampNeg = (V 4).toNatClampNeg
    rw [h 4 (by omega)]
theorem zo_w.trans {σ σ' σ'' : zS} {a : Nat} {e e' : va_E} (h : zo_w a e σ σ') (h' : zo_w a e' σ' σ'') : zo_w a e' σ σ'' := ⟨h'.1, fun b hb => (h'.2.1 b hb).trans (h.2.1 b hb), h'.2.2.trans h.2.2⟩
section ZD2
variable {L : Nat × Nat × Nat} {G : zPg} {n : Nat} {σ σ' σ'' : zS} {τ τ' τ'' : Nat → Nat} {Q : zQ} {Y : zY} {s t a e q C K o u k pa li lp la S R : Nat} {Ei Ep Ea : Nat → Nat} {V V' : zs_V} {W W' W'' : zc_W}
theorem zc_sm.sim (h : zc_sm σ τ S V) (hg : zs_sim V V') (hn : zs_n V ≤ 10) : zc_sm σ τ S V' := by
  obtain ⟨h1, o, g, h2, h3, h4, h5⟩ := h
  refine ⟨h1, o, g, h2, h3, h4, fun f hf => ?_⟩
  obtain ⟨b, fn, k1, k2, k3, k4⟩ := h5 f hf
  refine ⟨b, fn, k1, by rw [hg.all]; exact k2, k3, fun p hp => ?_⟩
  rw [hg.all] at hp
  rw [hg.w hn (by omega)]
  exact k4 p hp
theorem zc_Pt.gm (h : zc_Pt L G σ τ s li lp la Ei Ep Ea V W q) (hV : zs_ok V) (hg : zs_gm V V') : zc_Pt L G σ τ s li lp la Ei Ep Ea V' W q := by
  have hn := hV.n0.2
  have hsim := hg.sim
  have l1 := (hV.lc true).2
  have l2 := (hV.lc false).2
  obtain ⟨h1, h2, h3, h4, h5, h6, h7, h8, h9, h10, h11, h12, h13, h14, h15, h16⟩ := h
  refine ⟨h1, h2, h3, h4, h5, by rw [hsim.n]; exact h6, fun k hk => ?_, by rw [hg.lc]; exact h8, fun i hi => ?_, by rw [hg.lc]; exact h10, fun i hi => ?_, fun S hS => (h12 S hS).sim hsim hn, fun R hR => ?_, fun o ho => ?_, fun Me hMe => ?_, h16⟩
  · rw [hsim.n] at hk
    obtain ⟨p, f, i1, i2, i3, i4, i5, i6⟩ := h7 k hk
    exact ⟨p, f, i1, i2, i3, i4, i5, fun j hj => (i6 j hj).trans (hg _ (by omega)).symm⟩
  · rw [hg.lc] at hi
    rw [hg _ (by omega)]
    exact h9 i hi
  · rw [hg.lc] at hi
    rw [hg _ (by omega)]
    exact h11 i hi
  · obtain ⟨f, r1, r2, r3, r4⟩ := h13 R hR
    refine ⟨f, by rw [hsim.all]; exact r1, r2, r3, fun p hp => ?_⟩
    rw [r4 p hp]
    unfold zs_rv
    rw [hsim.w hn (by omega), hsim.cap, hsim.best hn]
  · obtain ⟨ga, ka, fg, fk, o1, o2, o3, o4, o5, o6, o7, o8, o9, o10⟩ := h14 o ho
    refine ⟨ga, ka, fg, fk, o1, o2, by rw [hsim.all]; exact o3, o4, o5, by rw [hsim.all]; exact o6, o7, o8, by rw [hsim.all]; exact o9, fun u t pa hu ht hpa hk => ?_⟩
    rw [hsim.all] at hu
    rw [hsim.O hn]
    exact o10 u t pa hu ht hpa hk
  · obtain ⟨f, S, m1, m2, m3, m4⟩ := h15 Me hMe
    exact ⟨f, S, m1, m2, m3.sim hsim hn, m4⟩
/-- the State's own numbers are written -/
theorem zc_P.wr (hV : zs_ok V) (hP : zc_P L G s V C K σ τ W q) (hg : zs_gm V V') (hw : zo_w s (.inr (1, zc_fs L.1 L.2.1 L.2.2 V' W)) σ σ') : zc_P L G s V' C K σ' τ W q ∧ zo_le (· = s + 4) σ τ σ' τ := by
  obtain ⟨hc, ht, hz⟩ := hP.cl
  have hle : zo_le (· = s + 4) σ τ σ' τ := hw.le hc ht
  obtain ⟨⟨li, lp, la, Ei, Ep, Ea, hs, hPt⟩, hB, hK⟩ := hP
  have hL : L = (li, lp, la) := hPt.2.2.2.2.2.2.2.2.2.2.2.2.2.2.2
  subst hL
  have hPt' := hPt.tr (σ' := σ') (τ' := τ) hV hK ht (fun b e hb hbs _ => ⟨hw.ne hb hbs, rfl⟩) ⟨_, hs⟩
  exact ⟨⟨⟨li, lp, la, Ei, Ep, Ea, hw.1, hPt'.gm hV hg⟩, ⟨by rw [hw.2.2]; exact hB.1, by rw [hw.2.2]; exact hB.2⟩, hK.mono hle (by omega)⟩, hle⟩
theorem zc_107 (hV : zs_ok V) (hP : zc_P L G s V C K σ τ W q) (h : ∀ σ', zo_le (· = s + 4) σ τ σ' τ → zc_P L G s (zs_bg V) C K σ' τ W q → Q none σ') : zCall G (n + 1) 107 [.ref s] Q Y σ := by
  obtain ⟨hs, ht, hz⟩ := hP.cl
  refine ze107 ⟨_, rfl, ?_⟩
  refine zo_put hs hz rfl fun s1 w1 => zo_put w1.1 hz rfl fun s2 w2 => zo_put w2.1 hz rfl fun s3 w3 => zo_put w3.1 hz rfl fun s4 w4 => zo_put w4.1 hz rfl fun s5 w5 => ?_
  have hw : zo_w s (.inr (1, zc_fs L.1 L.2.1 L.2.2 (zs_bg V) W)) σ s5 := (((w1.trans w2).trans w3).trans w4).trans w5
  obtain ⟨P, le⟩ := hP.wr hV (fun k hk => by unfold zs_bg; rw [if_neg (by omega)]) hw
  exact h s5 le P
theorem zc_106p (hV : zs_ok V) (hP : zc_P L G s V C K σ τ W q) (h : ∀ σ', zo_le (· = s + 4) σ τ σ' τ → zc_P L G s (zs_mkp V) C K σ' τ W q → Q none σ') : zCall G (n + 1) 106 [.ref s, .int (-1)] Q Y σ := by
  obtain ⟨hs, ht, hz⟩ := hP.cl
  refine ze106 ⟨_, _, rfl, ?_⟩
  refine zJ_go (fun (j : zS → Prop) => j σ) ?_ ?_
  · refine zJ_go (fun (j : Int32 → zS → Prop) => j (V 9 + 1) σ) ?_ ?_
    · refine zo_put hs hz rfl fun s1 w1 => zo_gI w1.1 rfl (zo_put w1.1 hz rfl fun s2 w2 => zo_gI w2.1 rfl (zo_put w2.1 hz rfl fun s3 w3 => ?_))
      have hw : zo_w s (.inr (1, zc_fs L.1 L.2.1 L.2.2 (zs_mkp V) W)) σ s3 := (w1.trans w2).trans w3
      obtain ⟨P, le⟩ := hP.wr hV (fun k hk => by unfold zs_mkp; rw [va_up_ne _ _ (by omega), va_up_ne _ _ (by omega), va_up_ne _ _ (by omega)]) hw
      exact h s3 le P
    · intro j hj
      exact ⟨fun h9 => absurd rfl h9, fun _ => zo_gI hs rfl hj⟩
  · intro j hj
    exact ⟨fun _ => hj, fun h9 => absurd rfl h9⟩
theorem zc_106t (hV : zs_ok V) (hP : zc_P L G s V C K σ τ W q) (hk : k < zs_n V) (h : ∀ σ', zo_le (· = s + 4) σ τ σ' τ → zc_P L G s (zs_mkt V k) C K σ' τ W q → Q none σ') : zCall G (n + 1) 106 [.ref s, .int (nI k)] Q Y σ := by
  obtain ⟨hs, ht, hz⟩ := hP.cl
  have hn := hV.n0.2
  have hne : ¬ nI k = (-1 : Int32) := by
    have : ∀ k, k < 10 → ¬ nI k = (-1 : Int32) := by decide
    exact this k (by omega)
  refine ze106 ⟨_, _, rfl, ?_⟩
  have hg : zs_gm V (zs_mkt V k) := fun i hi => by
    have := hV.tu.2
    unfold zs_mkt
    rw [va_up_ne _ _ (by omega), va_up_ne _ _ (by omega), va_up_ne _ _ (by omega), va_up_ne _ _ (by omega)]
  refine zJ_go (fun (j : zS → Prop) => ∀ s1, zo_w s (.inr (1, zc_fs L.1 L.2.1 L.2.2 (va_up V (6 + zs_tu V) (V (6 + zs_tu V) ||| nI (2 ^ k))) W)) σ s1 → j s1) ?_ ?_
  · intro s0 w0
    have w08 : (va_up V (6 + zs_tu V) (V (6 + zs_tu V) ||| nI (2 ^ k))) 8 = V 8 := va_up_ne _ _ (by have := hV.tu.2; omega)
    have w010 : (va_up V (6 + zs_tu V) (V (6 + zs_tu V) ||| nI (2 ^ k))) 10 = V 10 := va_up_ne _ _ (by have := hV.tu.2; omega)
    refine zJ_go (fun (j : Int32 → zS → Prop) => j 0 s0) ?_ ?_
    · refine zo_put w0.1 hz rfl fun s1 w1 => zo_gI w1.1 rfl (zo_put w1.1 hz rfl fun s2 w2 => zo_gI w2.1 rfl (zo_put w2.1 hz rfl fun s3 w3 => ?_))
      have w3' := ((w0.trans w1).trans w2).trans w3
      rw [w08, w010] at w3'
      have hw : zo_w s (.inr (1, zc_fs L.1 L.2.1 L.2.2 (zs_mkt V k) W)) σ s3 := w3'
      obtain ⟨P, le⟩ := hP.wr hV hg hw
      exact h s3 le P
    · intro j hj
      exact ⟨fun _ => hj, fun h9 => absurd h9 hne⟩
  · intro j hj
    refine ⟨fun h9 => absurd h9 hne, fun _ => zo_gI hs rfl (zo_gI hs rfl ?_)⟩
    have esh : (1 : Int32) <<< (nI k &&& 31) = nI (2 ^ k) := zn_shl k (by omega)
    rw [esh]
    rcases hV.2.2.2.2.2.2.2.2.1 with e8 | e8
    · have et : zs_tu V = 0 := by unfold zs_tu; rw [e8]; decide
      refine zJ_go (fun (j' : Int32 → zS → Prop) => j' (nI (2 ^ k)) σ) ?_ ?_
      · refine zo_put hs hz rfl fun s1 w1 => zo_gI w1.1 rfl (zo_gI w1.1 rfl ?_)
        refine zJ_go (fun (j' : Int32 → zS → Prop) => j' 0 s1) ?_ ?_
        · refine zo_put w1.1 hz rfl fun s2 w2 => hj s2 ?_
          have w3 := w1.trans w2
          have e0 : V 7 ||| 0 = V 7 := by
            rw [hV.g7.1]
            show nI _ ||| nI 0 = _
            rw [nx_or, Nat.or_zero]
          have w3 : zo_w s (.inr (1, [va_rf (some L.1), va_rf (some L.2.1), va_rf (some L.2.2), .int (V 1), .int (V 2), .int (V 3), .int (V 6 ||| nI (2 ^ k)), .int (V 7 ||| 0), .int (V 8), .int (V 9), .int (V 10), va_rf W.1, va_rf W.2.1, va_rf W.2.2.1, va_rf W.2.2.2])) σ s2 := w3
          rw [e0] at w3
          rw [et]
          exact w3
        · intro j' hj'
          have e81 : ¬ (V 8 = 1) := by rw [e8]; decide
          exact ⟨fun _ => hj', fun h9 => absurd h9 e81⟩
      · intro j' hj'
        exact ⟨fun h9 => absurd e8 h9, fun _ => hj'⟩
    · have et : zs_tu V = 1 := by unfold zs_tu; rw [e8]; decide
      have e80 : ¬ (V 8 = 0) := by rw [e8]; decide
      refine zJ_go (fun (j' : Int32 → zS → Prop) => j' 0 σ) ?_ ?_
      · refine zo_put hs hz rfl fun s1 w1 => zo_gI w1.1 rfl (zo_gI w1.1 rfl ?_)
        refine zJ_go (fun (j' : Int32 → zS → Prop) => j' (nI (2 ^ k)) s1) ?_ ?_
        · refine zo_put w1.1 hz rfl fun s2 w2 => hj s2 ?_
          have w3 := w1.trans w2
          have e0 : V 6 ||| 0 = V 6 := by
            rw [hV.g6.1]
            show nI _ ||| nI 0 = _
            rw [nx_or, Nat.or_zero]
          have w3 : zo_w s (.inr (1, [va_rf (some L.1), va_rf (some L.2.1), va_rf (some L.2.2), .int (V 1), .int (V 2), .int (V 3), .int (V 6 ||| 0), .int (V 7 ||| nI (2 ^ k)), .int (V 8), .int (V 9), .int (V 10), va_rf W.1, va_rf W.2.1, va_rf W.2.2.1, va_rf W.2.2.2])) σ s2 := w3
          rw [e0] at w3
          rw [et]
          exact w3
        · intro j' hj'
          exact ⟨fun h9 => absurd e8 h9, fun _ => hj'⟩
      · intro j' hj'
        exact ⟨fun _ => hj', fun h9 => absurd h9 e80⟩
theorem zs_res_f {p : Nat} : zs_res V false (zs_thr V) p = zs_w V 1 p - (if zs_cap V - zs_w V 0 p < zs_thr V then 0 else zs_w V 3 (zs_best V false p)) := by
  unfold zs_res zs_rep
  by_cases h : zs_cap V - zs_w V 0 p < zs_thr V
  · rw [if_pos h, if_pos h, zs_w0]
  · rw [if_neg h, if_neg h]
theorem zc_89 (hV : zs_ok V) (hC : 1 ≤ C) (hP : zc_P L G s V C K σ τ W q) (h : ∀ σ' τ' W', zc_go s σ τ W σ' τ' W' → zc_P L G s V (C - 1) K σ' τ' W' q → Q (some (.int (nI (zs_fp V (zs_all V))))) σ') : zCall G (n + 8) 89 [.ref s] Q Y σ := by
  have hA := hV.all
  have hc1 := hV.c1
  have hc2 := hV.c2
  have no : ∀ x, ¬ zo_no x := fun x h => h
  have hB := hP.2.1
  refine ze89 ⟨_, rfl, ?_⟩
  refine zo_new (by have := hB.1; omega) (by omega) fun s1 m1 => ⟨_, rfl, ?_⟩
  have d1 := m1.2.2.2.2.2.1
  have d2 := m1.2.2.2.2.2.2
  generalize σ.2.1 = T at *
  refine ze493 ⟨_, rfl, ⟨_, rfl, ze458 ⟨_, rfl, ⟨_, rfl, zqV_r.mpr (zqV_r.mpr ?_)⟩⟩⟩⟩
  have le1 : zo_le zo_no σ τ s1 (va_up τ T 3) := m1.le 3 (Or.inl (by omega))
  have P1 : zc_P L G s V (C - 1) K s1 (va_up τ T 3) W q := ⟨hP.1.mono hV hP.2.2 le1 (no _) (no _) (fun _ _ _ => no _), ⟨by have := hB.1; omega, by have := hB.2; omega⟩, hP.2.2.mono le1 (no _)⟩
  have go1 : zc_go s σ τ W s1 (va_up τ T 3) W := ⟨le1.wide (fun _ h => h.elim), zc_wl.rfl'⟩
  have ta1 : zc_ta s1 (va_up τ T 3) s T V false := ⟨by rw [va_up_self]; omega, m1.at⟩
  refine zl4 (fun (p9 p10 p11 : Int32) s' => ∃ k τ' W', k ≤ zs_all V ∧ p11 = nI k ∧ zc_go s σ τ W s' τ' W' ∧ zc_P L G s V (C - 1) K s' τ' W' q ∧ zc_ta s' τ' s T V false ∧ (k = 0 → p9 = -1) ∧ (k ≠ 0 → p9 = nI (zs_fp V k) ∧ p10 = iI (zs_res V false (zs_thr V) (zs_fp V k)))) (fun _ _ p11 _ => zs_all V - p11.toNatClampNeg) ?_ _ _ _ _ ⟨0, _, W, by omega, rfl, go1, P1, ta1, fun _ => rfl, fun h9 => absurd rfl h9⟩
  rintro rec p9 p10 p11 s' ⟨k, τ', W', hk, rfl, a1, a2, a3, a4, a5⟩ hrec
  refine a2.rc (zc_83 hV a2 fun s2 τ2 W2 S b1 b2 b3 b4 b5 => zqR_r.mpr (b5.rc (zc_452 b5 hV (zqI_r.mpr ?_))))
  have g2 := a1.trans b1
  have ta2 := a3.mono b1
  have ele : nI (zs_all V) ≤ nI k ↔ zs_all V ≤ k := nI_leI (by omega) (by omega)
  rw [ele]
  refine ⟨fun hge => ?_, fun hlt => ?_⟩
  · have hkk : k = zs_all V := by omega
    subst hkk
    rw [(a5 (by omega)).1]
    exact h s2 τ2 W2 g2 b2
  · have hlt : k < zs_all V := by omega
    refine b2.rc (zc_84 hV b2 hlt fun s3 τ3 W3 c1 c2 c3 => zqI_r.mpr ?_)
    rw [zs_b0, Classical.not_not]
    have g3 := g2.trans c1
    have ta3 := ta2.mono c1
    have fp0 : zs_fp V 1 = 0 := rfl
    refine zJ_go (fun (j : Int32 → Int32 → zS → Prop) => ∀ x y s4 τ4 W4, zc_go s σ τ W s4 τ4 W4 → zc_P L G s V (C - 1) K s4 τ4 W4 q → zc_ta s4 τ4 s T V false → x = nI (zs_fp V (k + 1)) → y = iI (zs_res V false (zs_thr V) (zs_fp V (k + 1))) → j x y s4) ?_ ?_
    · intro x y s4 τ4 W4 e1 e2 e3 e4 e5 v hv
      have hv' : v = nI (k + 1) := by rw [hv, nI_1]
      clear hv
      subst hv'
      refine hrec _ _ _ _ ⟨k + 1, τ4, W4, hlt, rfl, e1, e2, e3, fun h9 => absurd h9 (by omega), fun _ => ⟨e4, e5⟩⟩ ?_
      rw [nI_cl (by omega), nI_cl (by omega)]
      omega
    · intro j hj
      have hw := zs_w_b hV (f := 0) (by omega) k
      have hw1 := zs_w_b hV (f := 1) (by omega) k
      refine ⟨fun hfit => ?_, fun hno => ?_⟩
      · refine c2.rc (zc_83 hV c2 fun s4 τ4 W4 S4 e1 e2 e3 e4 e5 => zqR_r.mpr (e5.at hV (f := 1) (by omega) hlt (e2.rc (zc_86 hV e2 hlt fun s5 τ5 W5 f1 f2 f3 => zqI_r.mpr ?_))))
        have g5 := (g3.trans e1).trans f1
        have ta5 := (ta3.mono e1).mono f1
        obtain ⟨li, lp, la, hs5, _⟩ := f2.cell
        refine zo_gI hs5 rfl ?_
        have ethr : V 2 ≤ iI (zs_cap V - zs_w V 0 k) ↔ ¬ zs_cap V - zs_w V 0 k < zs_thr V := by
          rw [zs_c2 V, iI_le (by omega) (by omega) (by omega) (by omega)]
          omega
        rw [ethr]
        refine zJ_go (fun (j' : Int32 → zS → Prop) => ∀ s6 τ6 W6, zc_go s σ τ W s6 τ6 W6 → zc_P L G s V (C - 1) K s6 τ6 W6 q → zc_ta s6 τ6 s T V false → j' (iI (if zs_cap V - zs_w V 0 k < zs_thr V then 0 else zs_w V 3 (zs_best V false k))) s6) ?_ ?_
        · intro s6 τ6 W6 k1 k2 k3
          rw [iI_sub, ← zs_res_f]
          have hrb := zs_res_b hV (g := false) (t := zs_thr V) (p := k)
          refine zJ_go (fun (j' : zS → Prop) => zs_fp V (k + 1) = k → j' s6) ?_ ?_
          · intro hfp
            have := hj (nI k) (iI (zs_res V false (zs_thr V) k)) s6 τ6 W6 k1 k2 k3 (by rw [hfp]) (by rw [hfp])
            exact this
          · intro j' hj'
            by_cases hk0 : k = 0
            · rw [a4 hk0]
              refine ⟨fun _ => hj' ?_, fun h9 => absurd rfl h9⟩
              rw [hk0]
              exact fp0
            · obtain ⟨x1, x2⟩ := a5 hk0
              have hfp := zs_fp_ok hV k
              have hne : ¬ p9 = -1 := by
                rw [x1]
                have : ∀ i, i < 1024 → ¬ nI i = (-1 : Int32) := by decide +kernel
                exact this _ (by omega)
              have hrb2 := zs_res_b hV (g := false) (t := zs_thr V) (p := zs_fp V k)
              refine ⟨fun h9 => absurd h9 hne, fun _ => ?_⟩
              have elt : p10 < iI (zs_res V false (zs_thr V) k) ↔ zs_res V false (zs_thr V) (zs_fp V k) < zs_res V false (zs_thr V) k := by
                rw [x2, iI_lt (by omega) (by omega) (by omega) (by omega)]
              rw [elt]
              refine ⟨fun h8 => hj' ?_, fun h8 => ?_⟩
              · simp only [zs_fp]
                rw [if_neg hk0, if_pos ⟨hfit, h8⟩]
              · have efp : zs_fp V (k + 1) = zs_fp V k := by
                  simp only [zs_fp]
                  rw [if_neg hk0, if_neg (fun h7 => h8 h7.2)]
                exact hj p9 p10 s6 τ6 W6 k1 k2 k3 (by rw [efp]; exact x1) (by rw [efp]; exact x2)
        · intro j' hj'
          refine ⟨fun hge => ?_, fun hlt2 => ?_⟩
          · refine f2.rc (zc_83 hV f2 fun s6 τ6 W6 S6 k1 k2 k3 k4 k5 => zqR_r.mpr ?_)
            obtain ⟨m1', o, gg, m2, m3, m4, m5⟩ := k5
            obtain ⟨b, fn, y1, y2, y3, y4⟩ := m5 3 (by omega)
            refine zo_gR m2 rfl (zo_aR (p := 3) m3 (by omega) (by omega) (k2.rc (zc_88 hV k2 (ta5.mono k1) hlt fun s7 τ7 W7 n1 n2 n3 => zqI_r.mpr ?_)))
            rw [y1]
            have hbl := zs_best_lt hV (g := false) (p := k)
            refine zo_aI (n1.1.at y2 (by rw [y3]; omega)) hbl (by omega) ?_
            rw [y4 _ hbl]
            have := hj' s7 τ7 W7 ((g5.trans k1).trans n1) n2 ((ta5.mono k1).mono n1)
            rw [if_neg hge] at this
            exact this
          · have := hj' s5 τ5 W5 g5 f2 ta5
            rw [if_pos (Classical.not_not.mp hlt2)] at this
            exact this
      · have hk0 : k ≠ 0 := fun e => hno (by rw [e]; exact zs_fit0 hV)
        obtain ⟨x1, x2⟩ := a5 hk0
        have efp : zs_fp V (k + 1) = zs_fp V k := by
          simp only [zs_fp]
          rw [if_neg hk0, if_neg (fun h7 => hno h7.1)]
        exact hj p9 p10 s3 τ3 W3 g3 c2 ta3 (by rw [efp]; exact x1) (by rw [efp]; exact x2)
end ZD2
