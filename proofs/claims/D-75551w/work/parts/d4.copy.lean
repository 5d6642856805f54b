/-! THE COMPONENT's State: copy; lists that change -/
section ZD4
variable {L L' : Nat × Nat × Nat} {G : zPg} {n : Nat} {σ σ' σ'' : zS} {τ τ' τ'' : Nat → Nat} {Q : zQ} {Y : zY} {s t a c e q C K f len li lp la i k p : Nat} {E E' Ei Ep Ea : Nat → Nat} {V V' : zs_V} {W W' W'' : zc_W} {fs fs' : List Value} {O : Nat → Prop}
theorem zc_in.fz {x : Int32} (h : zc_in σ τ e x) : zc_fz σ τ 10 e := ⟨h.2, _, h.1⟩
theorem zc_it.fz {g : Nat → Int32} (h : zc_it G σ τ e g) : zc_fz σ τ 12 e := by
  obtain ⟨p, f, h1, h2, _⟩ := h
  exact ⟨h2, _, h1⟩
theorem zc_105 (hV : zs_ok V) (hK : zc_K G σ τ) (hS : zc_S L G σ τ s V W q) (hC : 24 ≤ σ.2.2.1) (hKK : 624 ≤ σ.2.2.2) (h : ∀ s1 u T L', zo_le zo_no σ τ s1 u → zc_S L' G s1 u T V (none, none, none, none) q → zc_K G s1 u → σ.1 T = none → σ.1 L'.1 = none → σ.1 L'.2.1 = none → σ.1 L'.2.2 = none → σ.2.2.1 ≤ s1.2.2.1 + 24 → σ.2.2.2 ≤ s1.2.2.2 + 624 → Q (some (va_rf (some T))) s1) : zCall G (n + 8) 105 [.ref s] Q Y σ := by
  have no : ∀ x, ¬ zo_no x := fun x h => h
  have hn := hV.n0.2
  have l1 := (hV.lc true).2
  have l2 := (hV.lc false).2
  obtain ⟨li, lp, la, Ei, Ep, Ea, hs, hPt⟩ := hS
  refine ze105 ⟨_, rfl, ?_⟩
  refine zo_new (by omega) (by omega) fun s1 m1 => ⟨_, rfl, ?_⟩
  have h0 := m1.1
  have hg := hK.1
  have d1 := m1.2.2.2.2.2.1
  have d2 := m1.2.2.2.2.2.2
  have nsT := m1.nn hs
  generalize σ.2.1 = T at *
  have le1 : zo_le zo_no σ τ s1 (va_up τ T (T + 4)) := m1.le (T + 4) (Or.inr (Or.inl rfl))
  refine zc_81 (E := fun _ => 0) (hK.mono le1 (no _)) m1.at hg (va_up_self _ _ _) (by omega) (by omega) fun s2 u2 mi mp ma ad2 hT2 hi2 hp2 ha2 n1 n2 n3 f1 f2 f3 c1 c2 => zqV_r.mpr ?_
  have le2 : zo_le zo_no σ τ s2 u2 := le1.after ad2 h0
  have back : ∀ l, s1.1 l = none → σ.1 l = none ∧ l ≠ T ∧ l ≠ s := fun l hl => by
    refine ⟨?_, fun e => ?_, fun e => ?_⟩
    · cases hh : σ.1 l with
      | none => rfl
      | some e =>
        rw [m1.ne hh] at hl
        cases hl
    · rw [e, m1.at] at hl
      cases hl
    · rw [e, m1.ne hs] at hl
      cases hl
  obtain ⟨z1, z2, z3⟩ := back mi f1
  obtain ⟨z4, z5, z6⟩ := back mp f2
  obtain ⟨z7, z8, z9⟩ := back ma f3
  have hw := hK.2.2.2.2.2.2.2.2
  have ex : ∀ a len E, zc_li G σ τ a len E → ∃ e, σ.1 a = some e := fun a len E hl => by
    obtain ⟨mc, arr, cap, ff, x1, _⟩ := hl
    exact ⟨_, x1⟩
  have nf : ∀ a len E b, zc_li G σ τ a len E → σ.1 b = none → a ≠ b := fun a len E b hl hb e => by
    obtain ⟨x, hx⟩ := ex a len E hl
    rw [e, hb] at hx
    cases hx
  have ts2 : u2 s = s + 4 := (le2.tg hs).trans hPt.1
  have tT2 : u2 T = T + 4 := (ad2.tg m1.at).trans (va_up_self _ _ _)
  have hK2 := hK.mono le2 (no _)
  have mo : ∀ (s3 : zS) (u3 : Nat → Nat), zo_le zo_no σ τ s3 u3 → zc_K G s3 u3 ∧ s3.1 s = some (.inr (1, zc_fs li lp la V W)) ∧ u3 s = s + 4 ∧ zc_li G s3 u3 li (zs_n V) Ei ∧ zc_li G s3 u3 lp (zs_lc V true) Ep ∧ zc_li G s3 u3 la (zs_lc V false) Ea := fun s3 u3 hle => ⟨hK.mono hle (no _), hle.at hs (no _), (hle.tg hs).trans hPt.1, hPt.2.2.2.2.2.1.mono hK hle (no _) (no _), hPt.2.2.2.2.2.2.2.1.mono hK hle (no _) (no _), hPt.2.2.2.2.2.2.2.2.2.1.mono hK hle (no _) (no _)⟩
  obtain ⟨k1, k2, k3, k4, k5, k6⟩ := mo s2 u2 le2
  refine zc_cplp (n := n) (Y := Y) (a := li) (b := mi) (c := 12) k1 k2 (by omega) hT2 (by omega) rfl rfl k4 (nf _ _ _ _ hPt.2.2.2.2.2.1 z1) hi2 (fun i hi => ((hPt.2.2.2.2.2.2.1 i hi).mono le2 (no _)).fz) (by omega) hn (by omega) (by omega) fun s3 u3 le3' hi3 c3 c4 => ?_
  have le3 : zo_le zo_no σ τ s3 u3 := le2.fresh le3' z1 hw
  obtain ⟨k1, k2, k3, k4, k5, k6⟩ := mo s3 u3 le3
  have hT3 := le3'.at hT2 (by rw [tT2]; omega)
  have tT3 : u3 T = T + 4 := (le3'.tg hT2).trans tT2
  have hp3 := hp2.mono hK2 le3' (by omega) (by omega)
  have ha3 := ha2.mono hK2 le3' (by omega) (by omega)
  refine zc_cplp (n := n) (Y := Y) (a := lp) (b := mp) (c := 10) k1 k2 (by omega) hT3 (by omega) rfl rfl k5 (nf _ _ _ _ hPt.2.2.2.2.2.2.2.1 z4) hp3 (fun i hi => ((hPt.2.2.2.2.2.2.2.2.1 i hi).mono le3 (no _)).fz) (by omega) (by omega) (by omega) (by omega) fun s4 u4 le4' hp4 c5 c6 => ?_
  have le4 : zo_le zo_no σ τ s4 u4 := le3.fresh le4' z4 hw
  have hK3 := k1
  obtain ⟨k1, k2, k3, k4, k5, k6⟩ := mo s4 u4 le4
  have hT4 := le4'.at hT3 (by rw [tT3]; omega)
  have tT4 : u4 T = T + 4 := (le4'.tg hT3).trans tT3
  have hi4 := hi3.mono hK3 le4' (by omega) (by omega)
  have ha4 := ha3.mono hK3 le4' (by omega) (by omega)
  refine zc_cplp (n := n) (Y := Y) (a := la) (b := ma) (c := 10) k1 k2 (by omega) hT4 (by omega) rfl rfl k6 (nf _ _ _ _ hPt.2.2.2.2.2.2.2.2.2.1 z7) ha4 (fun i hi => ((hPt.2.2.2.2.2.2.2.2.2.2.1 i hi).mono le4 (no _)).fz) (by omega) (by omega) (by omega) (by omega) fun s5 u5 le5' ha5 c7 c8 => ?_
  have le5 : zo_le zo_no σ τ s5 u5 := le4.fresh le5' z7 hw
  have hK4 := k1
  obtain ⟨k1, k2, k3, k4, k5, k6⟩ := mo s5 u5 le5
  have hT5 := le5'.at hT4 (by rw [tT4]; omega)
  have tT5 : u5 T = T + 4 := (le5'.tg hT4).trans tT4
  have hi5 := hi4.mono hK4 le5' (by omega) (by omega)
  have hp5 := hp4.mono hK4 le5' (by omega) (by omega)
  refine zo_gI k2 rfl (zo_put hT5 hg rfl fun t1 w1 => zo_gI (w1.ne k2 nsT) rfl (zo_put w1.1 hg rfl fun t2 w2 => zo_gI (w2.ne (w1.ne k2 nsT) nsT) rfl ⟨hV.2.2.2.1, zo_put w2.1 hg rfl fun t3 w3 => ?_⟩))
  have w13 := (w1.trans w2).trans w3
  refine zo_gI (w13.ne k2 nsT) rfl (zo_put w3.1 hg rfl fun t4 w4 => zo_gI (w4.ne (w13.ne k2 nsT) nsT) rfl (zo_put w4.1 hg rfl fun t5 w5 => ?_))
  have w15 := (w13.trans w4).trans w5
  refine zo_gI (w15.ne k2 nsT) rfl (zo_put w5.1 hg rfl fun t6 w6 => zo_gI (w6.ne (w15.ne k2 nsT) nsT) rfl (zo_put w6.1 hg rfl fun t7 w7 => ?_))
  have w17 := (w15.trans w6).trans w7
  refine zo_gI (w17.ne k2 nsT) rfl (zo_put w7.1 hg rfl fun t8 w8 => ?_)
  have w18 : zo_w T (.inr (1, zc_fs mi mp ma V (none, none, none, none))) s5 t8 := w17.trans w8
  have le8 : zo_le zo_no σ τ t8 u5 := le5.new h0 hT5 w18
  have le8' : zo_le (· = T + 4) s5 u5 t8 u5 := w18.le hT5 tT5
  have e8 : t8.2 = s5.2 := w18.2.2
  refine h t8 u5 T (mi, mp, ma) le8 ⟨mi, mp, ma, Ei, Ep, Ea, w18.1, tT5, hg, n1, n2, n3, hi5.mono k1 le8' (by omega) (by omega), hPt.2.2.2.2.2.2.1.mono le8 (no _), hp5.mono k1 le8' (by omega) (by omega), fun i hi => (hPt.2.2.2.2.2.2.2.2.1 i hi).mono le8 (no _), ha5.mono k1 le8' (by omega) (by omega), fun i hi => (hPt.2.2.2.2.2.2.2.2.2.2.1 i hi).mono le8 (no _), (fun _ h => by cases h), (fun _ h => by cases h), (fun _ h => by cases h), (fun _ h => by cases h), rfl⟩ (hK.mono le8 (no _)) h0 z1 z4 z7 (by rw [e8]; omega) (by rw [e8]; omega)
theorem zc_ms.mono {Me : Nat} (h : zc_ms σ τ s Me V) (hle : zo_le O σ τ σ' τ') (h0 : ¬ O 0) : zc_ms σ' τ' s Me V := by
  obtain ⟨f, S, m1, m2, m3, m4⟩ := h
  refine ⟨f, S, (hle.at' m1 m2 h0).1, (hle.at' m1 m2 h0).2, m3.mono hle h0, fun j hj => ?_⟩
  obtain ⟨b, r1, r2, r3⟩ := m4 j hj
  exact ⟨b, r1, hle.at' r2 r3 h0⟩
/-- one of the lists is another one -/
theorem zc_Pt.chl (h : zc_Pt L G σ τ s li lp la Ei Ep Ea V W q) (hs : σ.1 s = some (.inr (1, fs))) (hV : zs_ok V) (hK : zc_K G σ τ) (b : Bool) (hg : zs_sim V V') (ho : zs_lc V' (!b) = zs_lc V (!b) ∧ ∀ i, i < zs_lc V (!b) → V' (zs_cb (!b) + i) = V (zs_cb (!b) + i)) (hle : zo_le (· = (if b then lp else la) + 4) σ τ σ' τ') (hl : zc_li G σ' τ' (if b then lp else la) (zs_lc V' b) E') (he : ∀ i, i < zs_lc V' b → zc_in σ' τ' (E' i) (V' (zs_cb b + i))) : zc_Pt L G σ' τ' s li lp la Ei (if b then E' else Ep) (if b then Ea else E') V' W q := by
  have hn := hV.n0.2
  obtain ⟨h1, h2, h3, h4, h5, h6, h7, h8, h9, h10, h11, h12, h13, h14, h15, h16⟩ := h
  have hsl : ∀ a len E, zc_li G σ τ a len E → a ≠ s := fun a len E hl e => by
    obtain ⟨mc, arr, cap, ff, x1, _⟩ := hl
    rw [e, hs] at x1
    cases x1
  have nps := hsl _ _ _ h8
  have nas := hsl _ _ _ h10
  have nbs : (if b then lp else la) ≠ s := by
    cases b with
    | true => exact nps
    | false => exact nas
  have nbi : ¬ li + 4 = (if b then lp else la) + 4 := by
    cases b with
    | true => show ¬ li + 4 = lp + 4; omega
    | false => show ¬ li + 4 = la + 4; omega
  have hst := hle.at' hs h1 (by omega)
  have its : zc_its G σ' τ' V' Ei := fun k hk => by
    rw [hg.n] at hk
    obtain ⟨p, f, i1, i2, i3, i4, i5, i6⟩ := (h7 k hk).mono hle (by omega)
    exact ⟨p, f, i1, i2, i3, i4, i5, fun j hj => (i6 j hj).trans (hg _ (by omega)).symm⟩
  have hil : zc_li G σ' τ' li (zs_n V') Ei := by
    rw [hg.n]
    exact h6.mono hK hle nbi (by omega)
  have c12 : ∀ S, W.1 = some S → zc_sm σ' τ' S V' := fun S hS => ((h12 S hS).mono hle (by omega)).sim hg hn
  have H : ∀ b' e, σ.1 b' = some e → (∀ fs, e ≠ .inr (1, fs)) → (τ b' = 0 ∨ τ b' = s + 4) → σ'.1 b' = some e ∧ τ' b' = τ b' := fun b' e hb _ ht => ⟨hle.at hb (by omega), hle.tg hb⟩
  have c13 : ∀ R, W.2.1 = some R → zc_rp G σ' τ' s R V' q := fun R hR => by
    obtain ⟨f, r1, r2, r3, r4⟩ := (h13 R hR).tr (fun b' e hb hn ht => H b' e hb hn (Or.inr ht))
    refine ⟨f, by rw [hg.all]; exact r1, r2, r3, fun p hp => ?_⟩
    rw [r4 p hp]
    unfold zs_rv
    rw [hg.w hn (by omega), hg.cap, hg.best hn]
  have c14 : ∀ o, W.2.2.1 = some o → zc_ol G σ' τ' s o V' := fun o hO => by
    obtain ⟨ga, ka, fg, fk, o1, o2, o3, o4, o5, o6, o7, o8, o9, o10⟩ := (h14 o hO).tr (fun b' e hb hn ht => H b' e hb hn (by omega)) hV.all.1
    refine ⟨ga, ka, fg, fk, o1, o2, by rw [hg.all]; exact o3, o4, o5, by rw [hg.all]; exact o6, o7, o8, by rw [hg.all]; exact o9, fun u t pa hu ht hpa hk => ?_⟩
    rw [hg.all] at hu
    rw [hg.O hn]
    exact o10 u t pa hu ht hpa hk
  have c15 : ∀ Me, W.2.2.2 = some Me → zc_ms σ' τ' s Me V' := fun Me hMe => by
    obtain ⟨f, S, m1, m2, m3, m4⟩ := (h15 Me hMe).mono hle (by omega)
    exact ⟨f, S, m1, m2, m3.sim hg hn, m4⟩
  cases b with
  | true =>
    have hal : zc_li G σ' τ' la (zs_lc V' false) Ea := by
      have := ho.1
      rw [show zs_lc V' false = zs_lc V false from this]
      exact h10.mono hK hle (by show ¬ la + 4 = lp + 4; omega) (by omega)
    exact ⟨hst.2, h2, h3, h4, h5, hil, its, hl, he, hal, fun i hi => by
      rw [show zs_lc V' false = zs_lc V false from ho.1] at hi
      have e1 : V' (56 + i) = V (56 + i) := ho.2 i hi
      rw [e1]
      exact (h11 i hi).mono hle (by omega), c12, c13, c14, c15, h16⟩
  | false =>
    have hal : zc_li G σ' τ' lp (zs_lc V' true) Ep := by
      have := ho.1
      rw [show zs_lc V' true = zs_lc V true from this]
      exact h8.mono hK hle (by show ¬ lp + 4 = la + 4; omega) (by omega)
    exact ⟨hst.2, h2, h3, h4, h5, hil, its, hal, fun i hi => by
      rw [show zs_lc V' true = zs_lc V true from ho.1] at hi
      have e1 : V' (51 + i) = V (51 + i) := ho.2 i hi
      rw [e1]
      exact (h9 i hi).mono hle (by omega), hl, he, c12, c13, c14, c15, h16⟩
end ZD4
