/-! READING TEXTS: drafts stay rows that can come up; reading goes on -/
def zp_go (b : Nat → Nat) (L : Nat) (S S' : zp_P) : Prop := zp_ok b L S.1 → zp_ok b L S'.1 ∧ S.1.2.1 ≤ S'.1.2.1
theorem zp_go.rfl' {b : Nat → Nat} {L : Nat} {S : zp_P} : zp_go b L S S := fun h => ⟨h, Nat.le_refl _⟩
theorem zp_go.trans {b : Nat → Nat} {L : Nat} {S S' S'' : zp_P} (h : zp_go b L S S') (h' : zp_go b L S' S'') : zp_go b L S S'' := fun h0 => by
  have h1 := h h0
  have h2 := h' h1.1
  exact ⟨h2.1, Nat.le_trans h1.2 h2.2⟩
theorem zp_chk_t (S : zp_P) (ok : Prop) [Decidable ok] (c : Nat) : (zp_chk S ok c).1 = S.1 := by
  unfold zp_chk zp_flaw
  split
  · rfl
  · split
    · rfl
    · rfl
theorem zp_go.chk {b : Nat → Nat} {L : Nat} {S : zp_P} {ok : Prop} [Decidable ok] {c : Nat} : zp_go b L S (zp_chk S ok c) := fun h => by
  rw [zp_chk_t]
  exact ⟨h, Nat.le_refl _⟩
theorem zp_go.adv {b : Nat → Nat} {L : Nat} {S : zp_P} (hL : L ≤ 500) : zp_go b L S (zp_adv b L S) := fun h => by
  refine ⟨?_, zp_adv_le h⟩
  unfold zp_adv
  split
  · exact zp_tok_ok hL h.2.2.1
  · exact h
theorem zp_go.xs {b : Nat → Nat} {L : Nat} {S : zp_P} (hL : L ≤ 500) {c : Nat} : zp_go b L S (zp_xs b L S c) := zp_go.chk.trans (zp_go.adv hL)
theorem zp_go.nS {b : Nat → Nat} {L : Nat} {S : zp_P} (hL : L ≤ 500) {lo hi : Nat} : zp_go b L S (zp_nS b L S lo hi) := (zp_go.chk.trans zp_go.chk).trans (zp_go.adv hL)
theorem zp_go.mem {b : Nat → Nat} {L : Nat} {D : zs_V} {S : zp_P} (hL : L ≤ 500) {s : Nat} : zp_go b L S (zp_mem b L D S s) := ((zp_go.chk.trans zp_go.chk).trans zp_go.chk).trans (zp_go.adv hL)
theorem zp_go.ml {b : Nat → Nat} {L : Nat} {D : zs_V} (hL : L ≤ 500) : ∀ (q : Nat) (S : zp_P) (s : Nat), zp_go b L S (zp_ml b L D q S s).1
  | 0, S, s => zp_go.rfl'
  | q + 1, S, s => by
    unfold zp_ml
    split
    · exact (zp_go.mem hL).trans (zp_go.ml hL q _ _)
    · exact zp_go.rfl'
theorem zp_go.fd {b : Nat → Nat} {L p : Nat} (hL : L ≤ 500) (X : zp_X) : ∀ k, zp_go b L X.1 (zp_fd b L p X k).1
  | 0 => zp_go.nS hL
  | k + 1 => (zp_go.fd hL X k).trans (zp_go.nS hL)
theorem zp_chk_n {S : zp_P} {ok : Prop} [Decidable ok] {c : Nat} (hc : c ≠ 0) (h : ¬ S.2.1 = 0) : zp_chk S ok c = S := by
  unfold zp_chk zp_flaw
  rw [if_neg h]
  split
  · rfl
  · rfl
theorem zp_nv_b {b : Nat → Nat} {L : Nat} {S : zp_P} {lo hi : Nat} (h : lo ≤ hi) : lo ≤ zp_nv b L S lo hi ∧ zp_nv b L S lo hi ≤ hi := by
  unfold zp_nv
  by_cases he : (zp_nS b L S lo hi).2.1 = 0
  · rw [if_pos he]
    unfold zp_nS at he
    rw [zp_adv_e] at he
    have h1 := zp_chk_e (by omega) he
    rcases h1.1 with h2 | h2
    · exact absurd h1.2.1 h2
    · exact h2
  · rw [if_neg he]
    omega
theorem zp_fd_ne {b : Nat → Nat} {L p : Nat} (X : zp_X) : ∀ k i, i < p ∨ p + k < i → (zp_fd b L p X k).2 i = X.2 i
  | 0, i, h => by
    show va_up X.2 p (nI (zp_nv b L X.1 1 50)) i = _
    rw [va_up_ne _ _ (by omega)]
  | k + 1, i, h => by
    show va_up (zp_fd b L p X k).2 (p + (k + 1)) (nI (zp_nv b L (zp_fd b L p X k).1 0 99)) i = _
    rw [va_up_ne _ _ (by omega)]
    exact zp_fd_ne X k i (by omega)
theorem zp_fd_at {b : Nat → Nat} {L p : Nat} (X : zp_X) : ∀ k j, j ≤ k → ∃ v, (zp_fd b L p X k).2 (p + j) = nI v ∧ v ≤ 99 ∧ (j = 0 → 1 ≤ v ∧ v ≤ 50)
  | 0, j, h => by
    have hb := zp_nv_b (b := b) (L := L) (S := X.1) (show 1 ≤ 50 by omega)
    obtain rfl : j = 0 := by omega
    exact ⟨zp_nv b L X.1 1 50, va_up_self X.2 p _, by omega, fun _ => hb⟩
  | k + 1, j, h => by
    by_cases e : j = k + 1
    · have hb := zp_nv_b (b := b) (L := L) (S := (zp_fd b L p X k).1) (show 0 ≤ 99 by omega)
      subst e
      exact ⟨zp_nv b L (zp_fd b L p X k).1 0 99, va_up_self (zp_fd b L p X k).2 _ _, by omega, fun h9 => absurd h9 (by omega)⟩
    · obtain ⟨v, h1, h2⟩ := zp_fd_at X k j (by omega)
      refine ⟨v, ?_, h2⟩
      rw [← h1]
      show va_up (zp_fd b L p X k).2 (p + (k + 1)) (nI (zp_nv b L (zp_fd b L p X k).1 0 99)) (p + j) = _
      rw [va_up_ne _ _ (by omega)]
/-- an item more -/
theorem zs_ok_more {V W : zs_V} (h : zs_ok V) (hn : zs_n V < 10) (h0 : W 0 = nI (zs_n V + 1)) (hs : ∀ i, i ≠ 0 → i < 11 + 4 * zs_n V ∨ 11 + 4 * zs_n V + 3 < i → W i = V i) (hp : ∀ f, f ≤ 3 → ∃ v, W (11 + 4 * zs_n V + f) = nI v ∧ v ≤ 99 ∧ (f = 0 → 1 ≤ v ∧ v ≤ 50)) : zs_ok W := by
  have en : zs_n W = zs_n V + 1 := zs_n_of h0 (by omega)
  have eA : zs_all W = 2 * zs_all V := by
    unfold zs_all
    rw [en, Nat.pow_succ]
    omega
  obtain ⟨a1, a2, a3, a4, a5, a6, a7, a8, a9, a10⟩ := h
  have hp' : ∀ k f, k < zs_n V → f ≤ 3 → zs_p W k f = zs_p V k f := by
    intro k f h1 h2
    unfold zs_p
    rw [hs _ (by omega) (by omega)]
  have hS : ∀ i, (∃ s, s < zs_all V ∧ V i = nI s) → W i = V i → ∃ s, s < zs_all W ∧ W i = nI s := by
    rintro i ⟨s, h1, h2⟩ e
    exact ⟨s, by omega, e.trans h2⟩
  refine ⟨⟨_, by omega, h0⟩, ?_, ?_, ?_, ?_, ?_, ?_, ?_, ?_, ?_⟩
  · rw [hs 1 (by omega) (by omega)]; exact a2
  · rw [hs 2 (by omega) (by omega)]; exact a3
  · rw [hs 3 (by omega) (by omega)]; exact a4
  · intro k hk
    by_cases e : k = zs_n V
    · subst e
      have hq : ∀ f, f ≤ 3 → ∃ v : Nat, zs_p W (zs_n V) f = v ∧ v ≤ 99 ∧ (f = 0 → 1 ≤ v ∧ v ≤ 50) := by
        intro f hf
        obtain ⟨v, h1, h2, h3⟩ := hp f hf
        refine ⟨v, ?_, h2, h3⟩
        unfold zs_p
        rw [h1, ← iI_nat, iI_to (by omega) (by omega)]
      obtain ⟨v0, g1, g2, g3⟩ := hq 0 (by omega)
      have g4 := g3 rfl
      refine ⟨by omega, by omega, fun f hf1 hf2 => ?_⟩
      obtain ⟨v, g5, g6, _⟩ := hq f hf2
      omega
    · have hk' : k < zs_n V := by omega
      rw [hp' k 0 hk' (by omega)]
      refine ⟨(a5 k hk').1, (a5 k hk').2.1, fun f hf1 hf2 => ?_⟩
      rw [hp' k f hk' hf2]
      exact (a5 k hk').2.2 f hf1 hf2
  · intro g
    have h6 := a6 g
    have e1 : W (if g then 4 else 5) = V (if g then 4 else 5) := by
      cases g
      · exact hs 5 (by omega) (by omega)
      · exact hs 4 (by omega) (by omega)
    have e2 : zs_lc W g = zs_lc V g := by
      unfold zs_lc
      rw [e1]
    rw [e1, e2]
    refine ⟨h6.1, fun i hi => ?_⟩
    have h5 : zs_lc V g ≤ 5 := by
      obtain ⟨c, hc1, hc2⟩ := h6.1
      unfold zs_lc
      rw [hc2, nI_cl (by omega)]
      exact hc1
    refine hS _ (h6.2 i hi) (hs _ ?_ ?_)
    · split
      · omega
      · omega
    · split
      · omega
      · omega
  · exact hS 6 a7 (hs 6 (by omega) (by omega))
  · exact hS 7 a8 (hs 7 (by omega) (by omega))
  · rw [hs 8 (by omega) (by omega)]; exact a9
  · rw [hs 9 (by omega) (by omega)]; exact a10
theorem zp_item_ok {b : Nat → Nat} {L : Nat} {X : zp_X} (h : zs_ok X.2) : zs_ok (zp_item b L X).2 := by
  unfold zp_item
  by_cases he : (zp_i1 b L X).2.1 = 0
  · rw [if_pos he]
    have hn : zs_n X.2 < 10 := by
      unfold zp_i1 at he
      rw [zp_adv_e] at he
      exact (zp_chk_e (by omega) he).1
    refine zs_ok_more h hn (va_up_self (zp_i2 b L X).2 0 _) (fun i h0 hi => ?_) fun f hf => ?_
    · show va_up (zp_i2 b L X).2 0 (nI (zs_n X.2 + 1)) i = _
      rw [va_up_ne _ _ h0]
      exact zp_fd_ne (zp_i1 b L X, X.2) 3 i (by omega)
    · obtain ⟨v, g1, g2⟩ := zp_fd_at (b := b) (L := L) (p := 11 + 4 * zs_n X.2) (zp_i1 b L X, X.2) 3 f hf
      refine ⟨v, ?_, g2⟩
      show va_up (zp_i2 b L X).2 0 (nI (zs_n X.2 + 1)) (11 + 4 * zs_n X.2 + f) = _
      rw [va_up_ne _ _ (by omega)]
      exact g1
  · rw [if_neg he]
    exact h
theorem zp_ml_lt {b : Nat → Nat} {L : Nat} {D : zs_V} (hD : zs_ok D) : ∀ (q : Nat) (S : zp_P) (s : Nat), s < zs_all D → (zp_ml b L D q S s).2 < zs_all D
  | 0, S, s, h => h
  | q + 1, S, s, h => by
    unfold zp_ml
    split
    · exact zp_ml_lt hD q _ _ (Nat.or_lt_two_pow h (zp_mo_lt hD))
    · exact h
