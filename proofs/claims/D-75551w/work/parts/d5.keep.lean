/-! THE COMPONENT's State: what does not fit goes -/
def zc_O (s : Nat) (L : Nat × Nat × Nat) (x : Nat) : Prop := x = s + 4 ∨ x = L.1 + 4 ∨ x = L.2.1 + 4 ∨ x = L.2.2 + 4
def zc_lb (L : Nat × Nat × Nat) (b : Bool) : Nat := if b then L.2.1 else L.2.2
theorem zs_bg_rm (V : zs_V) (b : Bool) (i : Nat) : zs_rm (zs_bg V) b i = zs_bg (zs_rm V b i) := by
  have e1 : zs_bg V (zs_ci b) = V (zs_ci b) := by
    unfold zs_bg zs_ci
    cases b <;> rfl
  have e2 : zs_lc (zs_bg V) b = zs_lc V b := by
    unfold zs_lc
    cases b <;> rfl
  have hc : zs_ci b = 4 ∨ zs_ci b = 5 := by unfold zs_ci; cases b <;> simp
  have hb : zs_cb b = 51 ∨ zs_cb b = 56 := by unfold zs_cb; cases b <;> simp
  funext k
  unfold zs_rm
  rw [e1, e2]
  by_cases h6 : 6 ≤ k ∧ k ≤ 10
  · unfold zs_bg
    rw [if_neg (by omega), if_neg (by omega), if_neg (by omega), if_pos h6, if_pos h6]
  · unfold zs_bg
    rw [if_neg h6, if_neg h6]
    dsimp only
    by_cases h1 : k = zs_ci b
    · rw [if_pos h1, if_pos h1]
    · rw [if_neg h1, if_neg h1]
      by_cases h2 : k = zs_cb b + (zs_lc V b - 1)
      · rw [if_pos h2, if_pos h2]
      · rw [if_neg h2, if_neg h2]
        by_cases h3 : zs_cb b + i ≤ k ∧ k < zs_cb b + (zs_lc V b - 1)
        · rw [if_pos h3, if_pos h3, if_neg (by omega)]
        · rw [if_neg h3, if_neg h3]
theorem zs_bg_gm (V : zs_V) : zs_gm V (zs_bg V) := fun k hk => by
  unfold zs_bg
  rw [if_neg (by omega)]
theorem zs_kf_bg (b : Bool) : ∀ (k : Nat) (V : zs_V), zs_n V ≤ 10 → k ≤ 5 → zs_kf b k (zs_bg V) = zs_bg (zs_kf b k V)
  | 0, _, _, _ => rfl
  | k + 1, V, hn, hk => by
    have hs := (zs_bg_gm V).sim
    have e3 : zs_li (zs_bg V) b k = zs_li V b k := by
      unfold zs_li
      have : zs_bg V ((if b = true then 51 else 56) + k) = V ((if b = true then 51 else 56) + k) := zs_bg_gm V _ (by cases b <;> simp <;> omega)
      rw [this]
    simp only [zs_kf]
    rw [hs.w hn (by omega), hs.cap, e3]
    by_cases h : zs_w V 0 (zs_li V b k) ≤ zs_cap V
    · rw [if_pos h, if_pos h]
      exact zs_kf_bg b k V hn (by omega)
    · rw [if_neg h, if_neg h, zs_bg_rm]
      exact zs_kf_bg b k (zs_rm V b k) (by rw [(zs_rm_sim V b k).n]; exact hn) (by omega)
section ZD5
variable {L L' : Nat × Nat × Nat} {G : zPg} {n : Nat} {σ σ' σ'' : zS} {τ τ' τ'' : Nat → Nat} {Q : zQ} {Y : zY} {s t a c e q C K f len li lp la i k p : Nat} {E E' Ei Ep Ea : Nat → Nat} {V V' : zs_V} {W W' W'' : zc_W} {b : Bool}
theorem zc_P.lst (hP : zc_P L G s V C K σ τ W q) (b : Bool) : ∃ E, zc_li G σ τ (zc_lb L b) (zs_lc V b) E ∧ ∀ i, i < zs_lc V b → zc_in σ τ (E i) (V (zs_cb b + i)) := by
  obtain ⟨⟨li, lp, la, Ei, Ep, Ea, hs, hPt⟩, hB, hK⟩ := hP
  obtain ⟨h1, h2, h3, h4, h5, h6, h7, h8, h9, h10, h11, h12, h13, h14, h15, h16⟩ := hPt
  subst h16
  cases b with
  | true => exact ⟨Ep, h8, h9⟩
  | false => exact ⟨Ea, h10, h11⟩
theorem zc_P.chl (hV : zs_ok V) (hP : zc_P L G s V C K σ τ W q) (b : Bool) (hg : zs_sim V V') (h8 : ∀ k, 6 ≤ k → k ≤ 10 → V' k = V k) (ho : zs_lc V' (!b) = zs_lc V (!b) ∧ ∀ i, i < zs_lc V (!b) → V' (zs_cb (!b) + i) = V (zs_cb (!b) + i)) (hle : zo_le (· = zc_lb L b + 4) σ τ σ' τ') (hl : zc_li G σ' τ' (zc_lb L b) (zs_lc V' b) E') (he : ∀ i, i < zs_lc V' b → zc_in σ' τ' (E' i) (V' (zs_cb b + i))) {C' K' : Nat} (hC : σ.2.2.1 + C' ≤ σ'.2.2.1 + C) (hK' : σ.2.2.2 + K' ≤ σ'.2.2.2 + K) : zc_P L G s V' C' K' σ' τ' W q := by
  obtain ⟨hc, ht, hz⟩ := hP.cl
  obtain ⟨⟨li, lp, la, Ei, Ep, Ea, hs, hPt⟩, hB, hK⟩ := hP
  have hL : L = (li, lp, la) := hPt.2.2.2.2.2.2.2.2.2.2.2.2.2.2.2
  subst hL
  have hlb : ∃ len E, zc_li G σ τ (zc_lb (li, lp, la) b) len E := by
    cases b with
    | true => exact ⟨_, _, hPt.2.2.2.2.2.2.2.1⟩
    | false => exact ⟨_, _, hPt.2.2.2.2.2.2.2.2.2.1⟩
  have nbs : ¬ s + 4 = zc_lb (li, lp, la) b + 4 := fun e => by
    obtain ⟨len, E, mc, arr, cap, ff, x1, _⟩ := hlb
    rw [show zc_lb (li, lp, la) b = s by omega, hs] at x1
    cases x1
  have hcs := (hle.at' hs ht nbs).1
  have hPt' := hPt.chl hs hV hK b hg ho hle hl he
  have ecell : zc_fs li lp la V' W = zc_fs li lp la V W := by
    unfold zc_fs
    rw [hg 1 (by omega), hg 2 (by omega), hg 3 (by omega), h8 6 (by omega) (by omega), h8 7 (by omega) (by omega), h8 8 (by omega) (by omega), h8 9 (by omega) (by omega), h8 10 (by omega) (by omega)]
  exact ⟨⟨li, lp, la, _, _, _, by rw [ecell]; exact hcs, hPt'⟩, ⟨by have := hB.1; omega, by have := hB.2; omega⟩, hK.mono hle (by omega)⟩
theorem zc_113 (hV : zs_ok V) (hP : zc_P L G s V C K σ τ W q) (b : Bool) (h : ∀ σ' τ' W', zo_le (zc_O s L) σ τ σ' τ' → zc_P L G s (zs_kf b (zs_lc V b) V) C K σ' τ' W' q → zs_ok (zs_kf b (zs_lc V b) V) → Q none σ') : zCall G (n + 7) 113 [.ref s, va_rf (some (zc_lb L b))] Q Y σ := by
  have hl5 := (hV.lc b).2
  obtain ⟨E, hL, _⟩ := hP.lst b
  refine ze113 ⟨_, _, rfl, zc_rc2 hL (zc_128 hL (zqI_r.mpr ?_))⟩
  have hx : nI (zs_lc V b) - 1 = iI ((zs_lc V b : Int) - 1) := by
    rw [← iI_nat]
    show iI _ - iI 1 = _
    rw [iI_sub]
  refine zfd2 (zs_lc V b) (fun k s' => ∃ V1 τ' W', zo_le (zc_O s L) σ τ s' τ' ∧ zc_P L G s V1 C K s' τ' W' q ∧ zs_ok V1 ∧ k ≤ zs_lc V1 b ∧ zs_kf b k V1 = zs_kf b (zs_lc V b) V) ?_ ?_ hx ⟨V, τ, W, zo_le.rfl', hP, hV, Nat.le_refl _, rfl⟩
  · rintro rec k s' hk ⟨V1, τ', W', a1, a2, a3, a4, a5⟩ hrec
    obtain ⟨E1, hL1, hE1⟩ := a2.lst b
    have l5 := (a3.lc b).2
    refine ⟨fun h9 => absurd h9 (nI_pos (by omega)), fun _ => zc_rc2 hL1 (zc_129 hL1 (by omega) (by omega) (zqR_r.mpr ?_))⟩
    have hek := hE1 k (by omega)
    refine ⟨Or.inr ⟨_, _, _, rfl, by decide, hek.1⟩, zo_rc hek.1 (zc_432 hek (zqI_r.mpr ?_))⟩
    obtain ⟨x1, x2⟩ := a3.li (b := b) (i := k) (by omega)
    rw [x1]
    refine a2.rc (zc_84 a3 a2 x2 fun s2 τ2 W2 b1 b2 _ => zqI_r.mpr ?_)
    rw [zs_b0, Classical.not_not]
    simp only [zs_kf] at a5
    have le2 : zo_le (zc_O s L) σ τ s2 τ2 := a1.trans (b1.1.wide fun x hx => Or.inl hx)
    refine zJ_go (fun (j : zS → Prop) => ∀ s3 V3 τ3 W3, zo_le (zc_O s L) σ τ s3 τ3 → zc_P L G s V3 C K s3 τ3 W3 q → zs_ok V3 → k ≤ zs_lc V3 b → V3 = (if zs_w V1 0 (zs_li V1 b k) ≤ zs_cap V1 then V1 else zs_rm V1 b k) → j s3) ?_ ?_
    · intro s3 V3 τ3 W3 c1 c2 c3 c4 c5 v hv
      subst hv
      refine hrec s3 ⟨V3, τ3, W3, c1, c2, c3, c4, ?_⟩
      rw [c5]
      exact a5
    · intro j hj
      refine ⟨fun hyes => hj s2 V1 τ2 W2 le2 b2 a3 (by omega) (by rw [if_pos hyes]), fun hno => ?_⟩
      obtain ⟨E2, hL2, hE2⟩ := b2.lst b
      obtain ⟨len, hlen⟩ : ∃ len, zs_lc V1 b = len + 1 := ⟨zs_lc V1 b - 1, by omega⟩
      rw [hlen] at hL2
      have i1 : k < zs_lc V1 b := by omega
      refine zc_rc2 hL2 (zc_136 hL2 (by omega) (by omega) (fun i hi => ⟨(hE2 i (by omega)).ob, ?_⟩) fun s3 c1 c2 c3 => zqR_r.mpr ?_)
      · rw [(hE2 i (by omega)).2]
        omega
      · obtain ⟨r1, r2⟩ := zs_rm_lc a3 i1
        have hcb : zs_ci b = 4 ∨ zs_ci b = 5 := by unfold zs_ci; cases b <;> simp
        have hcc : zs_cb b = 51 ∨ zs_cb b = 56 := by unfold zs_cb; cases b <;> simp
        have nb : (!b) ≠ b := by cases b <;> decide
        obtain ⟨o1, o2⟩ := zs_rm_lc2 (i := k) a3 nb
        have l5' := (a3.lc (!b)).2
        have P3 : zc_P L G s (zs_rm V1 b k) C K s3 τ2 W2 q := by
          refine b2.chl a3 b (E' := zc_rm E2 k) (zs_rm_sim V1 b k) (fun i h6 h10 => ?_) ⟨o1, fun i hi => o2.1 i (by omega)⟩ c1 ?_ (fun i hi => ?_) (by rw [c3]; omega) (by rw [c3]; omega)
          · unfold zs_rm
            rw [if_neg (by omega), if_neg (by omega), if_neg (by omega)]
          · rw [r1, hlen]
            exact c2
          · rw [r1] at hi
            rw [zs_rm_li a3 i1 hi]
            unfold zc_rm
            by_cases hik : i < k
            · rw [if_pos hik, if_pos hik]
              exact (hE2 i (by omega)).mono c1 (by omega)
            · rw [if_neg hik, if_neg hik]
              exact (hE2 (i + 1) (by omega)).mono c1 (by omega)
        refine hj s3 (zs_rm V1 b k) τ2 W2 (le2.trans (c1.wide fun x hx => ?_)) P3 (zs_rm_ok a3 i1) (by omega) (by rw [if_neg hno])
        have hx : x = zc_lb L b + 4 := hx
        unfold zc_lb at hx
        cases b with
        | true => exact Or.inr (Or.inr (Or.inl hx))
        | false => exact Or.inr (Or.inr (Or.inr hx))
  · rintro rec s' ⟨V1, τ', W', a1, a2, a3, a4, a5⟩
    have e : V1 = zs_kf b (zs_lc V b) V := a5
    rw [e] at a2 a3
    exact ⟨fun _ => h s' τ' W' a1 a2 a3, fun h9 => absurd (by decide) h9⟩
theorem zc_112 (hV : zs_ok V) (hP : zc_P L G s V C K σ τ (none, none, none, none) q) (h : ∀ σ' τ' W', zo_le (zc_O s L) σ τ σ' τ' → zc_P L G s (zs_bg (zs_kf false (zs_lc (zs_kf true (zs_lc V true) V) false) (zs_kf true (zs_lc V true) V))) C K σ' τ' W' q → zs_ok (zs_kf false (zs_lc (zs_kf true (zs_lc V true) V) false) (zs_kf true (zs_lc V true) V)) → Q none σ') : zCall G (n + 8) 112 [.ref s] Q Y σ := by
  obtain ⟨hs, ht, hz⟩ := hP.cl
  refine ze112 ⟨_, rfl, ?_⟩
  refine zo_put hs hz rfl fun s1 w1 => zo_put w1.1 hz rfl fun s2 w2 => zo_put w2.1 hz rfl fun s3 w3 => zo_put w3.1 hz rfl fun s4 w4 => ?_
  have hw : zo_w s (.inr (1, zc_fs L.1 L.2.1 L.2.2 V (none, none, none, none))) σ s4 := ((w1.trans w2).trans w3).trans w4
  obtain ⟨P4, le4⟩ := hP.wr hV (fun _ _ => rfl) hw
  refine zo_gR hw.1 rfl (zo_rc hw.1 ?_)
  refine zc_113 hV P4 true fun s5 τ5 W5 a1 a2 a3 => zqV_r.mpr ?_
  obtain ⟨hs5, _⟩ := a2.cl
  refine zo_gR hs5 rfl (zo_rc hs5 ?_)
  refine zc_113 a3 a2 false fun s6 τ6 W6 b1 b2 b3 => zqV_r.mpr (b2.rc (zc_107 b3 b2 fun s7 c1 c2 => zqV_r.mpr ?_))
  exact h s7 τ6 W6 ((((le4.wide fun x hx => Or.inl hx).trans a1).trans b1).trans (c1.wide fun x hx => Or.inl hx)) c2 b3
end ZD5
