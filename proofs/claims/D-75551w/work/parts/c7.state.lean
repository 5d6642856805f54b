/-! THE COMPONENT's State: tastes, replies -/
def zc_ta (σ : zS) (τ : Nat → Nat) (s t : Nat) (V : zs_V) (g : Bool) : Prop := τ t ≠ s + 4 ∧ σ.1 t = some (if g then .inr (17, [.int (V 3)]) else .inr (21, []))
section ZC7
variable {L : Nat × Nat × Nat} {G : zPg} {n : Nat} {σ σ' σ'' : zS} {τ τ' τ'' : Nat → Nat} {Q : zQ} {Y : zY} {s t a e q C K S : Nat} {V : zs_V} {W W' W'' : zc_W} {g : Bool}
theorem zc_ta.mono (h : zc_ta σ τ s t V g) (hg : zc_go s σ τ W σ' τ' W') : zc_ta σ' τ' s t V g := ⟨by rw [hg.1.tg h.2]; exact h.1, hg.1.at h.2 h.1⟩
theorem iI_0 {d : Int} (h1 : -2000000 ≤ d) (h2 : d ≤ 2000000) : (iI d = 0 ↔ d = 0) ∧ (iI d ≤ 0 ↔ d ≤ 0) := by
  constructor
  · show iI d = iI 0 ↔ _
    rw [iI_eq (by omega) (by omega) (by omega) (by omega)]
  · show iI d ≤ iI 0 ↔ _
    rw [iI_le (by omega) (by omega) (by omega) (by omega)]
theorem zc_460 (hV : zs_ok V) (ht : σ.1 t = some (.inr (17, [.int (V 3)]))) (hm : zc_sm σ τ S V) {p r : Nat} (hp : p < zs_all V) (hr : r < zs_all V) (h : Q (some (.int (zs_b (zs_bet V true p r = true)))) σ) : zCall G (n + 1) 460 [.ref t, va_rf (some S), .int (nI p), .int (nI r)] Q Y σ := by
  have hA := hV.all
  have b1 := zs_w_b hV (f := 2) (by omega) p
  have b2 := zs_w_b hV (f := 2) (by omega) r
  have b3 := zs_w_b hV (f := 3) (by omega) p
  have b4 := zs_w_b hV (f := 3) (by omega) r
  have fr := hV.2.2.2.1
  have eb : zs_bet V true p r = decide (0 < (if zs_w V 2 p - zs_w V 2 r ≠ 0 then zs_w V 2 p - zs_w V 2 r else if V 3 = 1 then -(zs_w V 3 p - zs_w V 3 r) else zs_w V 3 p - zs_w V 3 r) ∨ ((if zs_w V 2 p - zs_w V 2 r ≠ 0 then zs_w V 2 p - zs_w V 2 r else if V 3 = 1 then -(zs_w V 3 p - zs_w V 3 r) else zs_w V 3 p - zs_w V 3 r) = 0 ∧ p < r)) := by
    unfold zs_bet
    simp only [if_true, true_and]
  have le : nI r ≤ nI p ↔ r ≤ p := nI_leI (by omega) (by omega)
  refine ze460 ⟨_, _, _, _, rfl, ?_⟩
  refine hm.at hV (f := 2) (by omega) hp (hm.at hV (f := 2) (by omega) hr ?_)
  rw [iI_sub, (iI_0 (by omega) (by omega)).1, (iI_0 (by omega) (by omega)).2]
  refine ⟨fun hz => ?_, fun hz => ?_⟩
  · refine hm.at hV (f := 3) (by omega) hp (hm.at hV (f := 3) (by omega) hr ?_)
    rw [iI_sub, (iI_0 (by omega) (by omega)).1, (iI_0 (by omega) (by omega)).2, le]
    refine zJ_go (fun (j : Int32 → zS → Prop) => j (zs_b (zs_bet V true p r = true)) σ) ⟨zs_bb, h⟩ ?_
    intro j hj
    rw [eb, if_neg (by omega)] at hj
    refine ⟨fun hz3 => ⟨fun hle => ?_, fun hlt => ?_⟩, fun hz3 => ?_⟩
    · rw [zs_bf (fun h9 => ?_)] at hj
      · exact hj
      · have h9 := of_decide_eq_true h9
        by_cases f1 : V 3 = 1
        · rw [if_pos f1] at h9
          omega
        · rw [if_neg f1] at h9
          omega
    · rw [zs_bt (decide_eq_true ?_)] at hj
      · exact hj
      · by_cases f1 : V 3 = 1
        · rw [if_pos f1]
          omega
        · rw [if_neg f1]
          omega
    · refine zJ_go (fun (j' : Int32 → zS → Prop) => j' (zs_b (0 < zs_w V 3 p - zs_w V 3 r)) σ) ?_ ?_
      · refine zo_gI ht rfl ?_
        rcases fr with f0 | f1
        · rw [f0]
          rw [if_neg (by rw [f0]; decide)] at hj
          by_cases hpos : 0 < zs_w V 3 p - zs_w V 3 r
          · rw [zs_bt hpos]
            rw [zs_bt (decide_eq_true (Or.inl hpos))] at hj
            exact ⟨fun h9 => absurd h9 (by decide), fun _ => hj⟩
          · rw [zs_bf hpos]
            rw [zs_bf (fun h9 => by have := of_decide_eq_true h9; omega)] at hj
            exact ⟨fun _ => hj, fun h9 => absurd rfl h9⟩
        · rw [f1]
          rw [if_pos f1] at hj
          by_cases hpos : 0 < zs_w V 3 p - zs_w V 3 r
          · rw [zs_bt hpos]
            rw [zs_bf (fun h9 => by have := of_decide_eq_true h9; omega)] at hj
            exact ⟨fun _ => hj, fun h9 => absurd rfl h9⟩
          · rw [zs_bf hpos]
            rw [zs_bt (decide_eq_true (Or.inl (by omega)))] at hj
            exact ⟨fun h9 => absurd h9 (by decide), fun _ => hj⟩
      · intro j' hj'
        refine ⟨fun h9 => ?_, fun h9 => ?_⟩
        · rw [zs_bf (by omega)] at hj'
          exact hj'
        · rw [zs_bt (by omega)] at hj'
          exact hj'
  · refine zJ_go (fun (j : Int32 → zS → Prop) => j (zs_b (zs_bet V true p r = true)) σ) ⟨zs_bb, h⟩ ?_
    intro j hj
    rw [eb, if_pos hz] at hj
    refine ⟨fun h9 => ?_, fun h9 => ?_⟩
    · rw [zs_bf (fun h8 => by have := of_decide_eq_true h8; omega)] at hj
      exact hj
    · rw [zs_bt (decide_eq_true (Or.inl (by omega)))] at hj
      exact hj
theorem zc_492 (hV : zs_ok V) (hm : zc_sm σ τ S V) {p r : Nat} (hp : p < zs_all V) (hr : r < zs_all V) (h : Q (some (.int (zs_b (zs_bet V false p r = true)))) σ) : zCall G (n + 1) 492 [.ref t, va_rf (some S), .int (nI p), .int (nI r)] Q Y σ := by
  have hA := hV.all
  have b3 := zs_w_b hV (f := 3) (by omega) p
  have b4 := zs_w_b hV (f := 3) (by omega) r
  have eb : zs_bet V false p r = decide (0 < zs_w V 3 p - zs_w V 3 r ∨ (zs_w V 3 p - zs_w V 3 r = 0 ∧ p < r)) := by
    unfold zs_bet
    simp
  have le : nI r ≤ nI p ↔ r ≤ p := nI_leI (by omega) (by omega)
  refine ze492 ⟨_, _, _, _, rfl, ?_⟩
  refine hm.at hV (f := 3) (by omega) hp (hm.at hV (f := 3) (by omega) hr ?_)
  rw [iI_sub, (iI_0 (by omega) (by omega)).1, (iI_0 (by omega) (by omega)).2, le]
  refine zJ_go (fun (j : Int32 → zS → Prop) => j (zs_b (zs_bet V false p r = true)) σ) ⟨zs_bb, h⟩ ?_
  intro j hj
  rw [eb] at hj
  refine ⟨fun hz => ⟨fun hle => ?_, fun hlt => ?_⟩, fun hz => ⟨fun hle => ?_, fun hlt => ?_⟩⟩
  · rw [zs_bf (fun h8 => by have := of_decide_eq_true h8; omega)] at hj
    exact hj
  · rw [zs_bt (decide_eq_true (by omega))] at hj
    exact hj
  · rw [zs_bf (fun h8 => by have := of_decide_eq_true h8; omega)] at hj
    exact hj
  · rw [zs_bt (decide_eq_true (by omega))] at hj
    exact hj
theorem zc_88 (hV : zs_ok V) (hP : zc_P L G s V C K σ τ W q) (hT : zc_ta σ τ s t V g) {p : Nat} (hp : p < zs_all V) (h : ∀ σ' τ' W', zc_go s σ τ W σ' τ' W' → zc_P L G s V C K σ' τ' W' q → W'.2 = W.2 → Q (some (.int (nI (zs_best V g p)))) σ') : zCall G (n + 7) 88 [.ref s, .int (nI p), va_rf (some t)] Q Y σ := by
  have hA := hV.all
  have hn := hV.n0.2
  refine ze88 ⟨_, _, _, rfl, hP.rc (zc_83 hV hP fun s1 τ1 W1 S b1 b2 b3 b4 b5 => zqR_r.mpr (b5.rc (zc_452 b5 hV (zqI_r.mpr fun v hv => ?_))))⟩
  have ev : v = nI (zs_all V - 1 - p) := by
    rw [hv, show nI (zs_all V) - 1 = nI (zs_all V - 1) from zn_sub (b := 1) hA.1]
    exact zn_free (by omega) hp
  clear hv
  subst ev
  have hw := zs_w_b hV (f := 0) (by omega) p
  have hc1 := hV.c1
  refine zl3 (fun (x0 x1 : Int32) s' => ∃ τ' W' f set best, x0 = nI best ∧ x1 = nI set ∧ set < zs_all V ∧ best < zs_all V ∧ set < f ∧ zs_fil V g (zs_cap V - zs_w V 0 p) (zs_all V - 1 - p) f set best = zs_best V g p ∧ zc_go s σ τ W s' τ' W' ∧ zc_P L G s V C K s' τ' W' q ∧ W'.2 = W.2) (fun _ x1 _ => x1.toNatClampNeg) ?_ _ _ _ ⟨τ1, W1, 1024, zs_all V - 1 - p, 0, rfl, rfl, by omega, by omega, by omega, rfl, b1, b2, b4⟩
  rintro rec x0 x1 s' ⟨τ', W', f, set, best, rfl, rfl, c1, c2, c3, c4, c5, c6, c7⟩ hrec
  obtain ⟨f, rfl⟩ : ∃ f', f = f' + 1 := ⟨f - 1, by omega⟩
  have e0 : nI set ≤ 0 ↔ set = 0 := by
    have : nI set ≤ nI 0 ↔ set ≤ 0 := nI_leI (by omega) (by omega)
    show nI set ≤ nI 0 ↔ _
    rw [this]
    omega
  rw [e0]
  simp only [zs_fil] at c4
  refine ⟨fun h0 => ?_, fun h0 => ?_⟩
  · rw [if_pos h0] at c4
    rw [c4]
    exact h s' τ' W' c5 c6 c7
  · rw [if_neg h0] at c4
    have hw2 := zs_w_b hV (f := 0) (by omega) set
    refine c6.rc (zc_83 hV c6 fun s2 τ2 W2 S2 d1 d2 d3 d4 d5 => zqR_r.mpr (d5.rc (zc_453 d5 hV c1 (zqI_r.mpr (d2.rc (zc_86 hV d2 hp fun s3 τ3 W3 f1 f2 f3 => zqI_r.mpr ?_))))))
    have elt : iI (zs_cap V - zs_w V 0 p) < iI (zs_w V 0 set) ↔ ¬ zs_w V 0 set ≤ zs_cap V - zs_w V 0 p := by
      rw [iI_lt (by omega) (by omega) (by omega) (by omega)]
      omega
    rw [elt, Classical.not_not]
    have eand : (nI set - 1) &&& nI (zs_all V - 1 - p) = nI ((set - 1) &&& (zs_all V - 1 - p)) := by
      rw [show nI set - 1 = nI (set - 1) from zn_sub (b := 1) (by omega), nx_and]
    have hlt : (set - 1) &&& (zs_all V - 1 - p) ≤ set - 1 := Nat.and_le_left
    refine zJ_go (fun (j : Int32 → zS → Prop) => ∀ s4 τ4 W4, zc_go s σ τ W s4 τ4 W4 → zc_P L G s V C K s4 τ4 W4 q → W4.2 = W.2 → j (nI (if zs_w V 0 set ≤ zs_cap V - zs_w V 0 p ∧ zs_bet V g set best = true then set else best)) s4) ?_ ?_
    · intro s4 τ4 W4 g1 g2 g3
      rw [eand]
      refine hrec _ _ _ ⟨τ4, W4, f, _, _, rfl, rfl, by omega, ?_, by omega, c4, g1, g2, g3⟩ ?_
      · by_cases hc : zs_w V 0 set ≤ zs_cap V - zs_w V 0 p ∧ zs_bet V g set best = true
        · rw [if_pos hc]; exact c1
        · rw [if_neg hc]; exact c2
      · rw [nI_cl (by omega), nI_cl (by omega)]
        omega
    · intro j hj
      have g3 : zc_go s σ τ W s3 τ3 W3 := (c5.trans d1).trans f1
      have w3 : W3.2 = W.2 := f3.trans (d4.trans c7)
      refine ⟨fun hno => ?_, fun hyes => ?_⟩
      · have := hj s3 τ3 W3 g3 f2 w3
        rw [if_neg (fun h9 => hno h9.1)] at this
        exact this
      · refine f2.rc (zc_83 hV f2 fun s4 τ4 W4 S4 k1 k2 k3 k4 k5 => zqR_r.mpr ?_)
        have g4 : zc_go s σ τ W s4 τ4 W4 := g3.trans k1
        have w4 : W4.2 = W.2 := k4.trans w3
        have hT4 : zc_ta s4 τ4 s t V g := hT.mono g4
        refine zJ_go (fun (j' : Int32 → zS → Prop) => j' (zs_b (zs_bet V g set best = true)) s4) ?_ ?_
        · rw [zs_b0]
          refine ⟨fun h9 => ?_, fun h9 => ?_⟩
          · have := hj s4 τ4 W4 g4 k2 w4
            rw [if_neg (fun h8 => h9 h8.2)] at this
            exact this
          · have := hj s4 τ4 W4 g4 k2 w4
            rw [if_pos ⟨hyes, Classical.not_not.mp h9⟩] at this
            exact this
        · intro j' hj'
          cases g with
          | true =>
            have ht : s4.1 t = some (.inr (17, [.int (V 3)])) := hT4.2
            refine zo_rcM ht (by decide) ⟨fun _ => zc_460 hV ht k5 c1 c2 (zqI_r.mpr hj'), fun h9 => absurd h9 (by decide)⟩
          | false =>
            have ht : s4.1 t = some (.inr (21, [])) := hT4.2
            refine zo_rcM ht (by decide) ⟨fun h9 => absurd h9 (by decide), fun _ => zc_492 hV k5 c1 c2 (zqI_r.mpr hj')⟩
end ZC7
