/-! THE PROGRAM OF A GAME WITH POSITIVE PAYOFFS -/
def zk_L (a : Nat → Nat → Rat) (m n : Nat) : zk_V → Prop := fun x => (∀ i, i < m → x (n + i) = x (n + m) - zk_s (fun j => a i j * x j) n) ∧ x (n + m + 1) = zk_s x n
theorem zk_L_lin (a : Nat → Nat → Rat) (m n : Nat) : zk_lin (zk_L a m n) := by
  refine ⟨⟨fun i hi => ?_, ?_⟩, fun x y hx hy => ⟨fun i hi => ?_, ?_⟩, fun c x hx => ⟨fun i hi => ?_, ?_⟩⟩
  · show (0 : Rat) = 0 - zk_s (fun j => a i j * 0) n
    rw [zk_s_zero (fun k _ => by grind)]
    grind
  · show (0 : Rat) = zk_s (fun _ => 0) n
    rw [zk_s_zero (fun _ _ => rfl)]
  · show x (n + i) + y (n + i) = (x (n + m) + y (n + m)) - zk_s (fun j => a i j * (x j + y j)) n
    rw [hx.1 i hi, hy.1 i hi, zk_s_cong (g := fun j => a i j * x j + a i j * y j) (fun k _ => Rat.mul_add _ _ _), zk_s_add]
    grind
  · show x (n + m + 1) + y (n + m + 1) = zk_s (fun j => x j + y j) n
    rw [hx.2, hy.2, zk_s_add]
  · show c * x (n + i) = c * x (n + m) - zk_s (fun j => a i j * (c * x j)) n
    have e : zk_s (fun j => a i j * (c * x j)) n = c * zk_s (fun j => a i j * x j) n := by
      rw [← zk_s_mul]
      exact zk_s_cong (fun k _ => by grind)
    rw [e, hx.1 i hi]
    grind
  · show c * x (n + m + 1) = zk_s (fun j => c * x j) n
    rw [hx.2, zk_s_mul]
theorem zk_L_bas (a : Nat → Nat → Rat) (m n : Nat) : zk_bas (zk_L a m n) (n + m) (fun k => decide (n ≤ k)) := by
  constructor
  · intro u
    refine ⟨fun k => if k < n then u k else if k < n + m then u (n + m) - zk_s (fun j => a (k - n) j * u j) n else if k = n + m then u (n + m) else zk_s u n, ⟨fun i hi => ?_, ?_⟩, ?_, fun j hj hb => ?_⟩
    · show (if n + i < n then u (n + i) else if n + i < n + m then u (n + m) - zk_s (fun j => a (n + i - n) j * u j) n else if n + i = n + m then u (n + m) else zk_s u n) = (if n + m < n then u (n + m) else if n + m < n + m then u (n + m) - zk_s (fun j => a (n + m - n) j * u j) n else if n + m = n + m then u (n + m) else zk_s u n) - _
      rw [if_neg (by omega), if_pos (by omega), if_neg (by omega), if_neg (by omega), if_pos rfl, show n + i - n = i by omega]
      congr 1
      exact zk_s_cong (fun k hk => by (try dsimp only); rw [if_pos hk])
    · show (if n + m + 1 < n then u (n + m + 1) else if n + m + 1 < n + m then u (n + m) - zk_s (fun j => a (n + m + 1 - n) j * u j) n else if n + m + 1 = n + m then u (n + m) else zk_s u n) = _
      rw [if_neg (by omega), if_neg (by omega), if_neg (by omega)]
      exact zk_s_cong (fun k hk => by (try dsimp only); rw [if_pos hk])
    · show (if n + m < n then u (n + m) else if n + m < n + m then u (n + m) - zk_s (fun j => a (n + m - n) j * u j) n else if n + m = n + m then u (n + m) else zk_s u n) = u (n + m)
      rw [if_neg (by omega), if_neg (by omega), if_pos rfl]
    · have hjn : j < n := by simpa using hb
      show (if j < n then u j else _) = u j
      rw [if_pos hjn]
  · intro x hx hN h0 i hi
    have hy : ∀ j, j < n → x j = 0 := fun j hj => h0 j (by omega) (by simp; exact hj)
    by_cases h1 : i < n
    · exact hy i h1
    · by_cases h2 : i < n + m
      · have h3 := hx.1 (i - n) (by omega)
        rw [show n + (i - n) = i by omega, hN, zk_s_zero (fun k hk => by rw [hy k hk]; grind)] at h3
        rw [h3]
        grind
      · by_cases h3 : i = n + m
        · rw [h3]; exact hN
        · rw [show i = n + m + 1 by omega, hx.2]
          exact zk_s_zero hy
theorem zk_s_pos {f : Nat → Rat} {n : Nat} (h : ∀ k, k < n → 0 ≤ f k) {g : Nat} (hg : g < n) (h2 : 0 < f g) : 0 < zk_s f n := by
  have h3 := zk_s_lt (f := fun k => (-1) * f k) (n := n) (fun k hk => by have := h k hk; grind) g hg (by grind)
  rw [zk_s_mul] at h3
  grind
theorem zk_game (a : Nat → Nat → Rat) (m n : Nat) (hm : 0 < m) (ha : ∀ i, i < m → ∀ j, j < n → 0 < a i j) : ∃ (R C : Nat → Bool) (x y : Nat → Rat), fb_ct R m = fb_ct C n ∧ (∀ i, i < m → 0 ≤ x i) ∧ (∀ i, i < m → R i = false → x i = 0) ∧ (∀ j, j < n → 0 ≤ y j) ∧ (∀ j, j < n → C j = false → y j = 0) ∧ (∀ j, j < n → 1 ≤ zk_s (fun i => x i * a i j) m) ∧ (∀ j, j < n → C j = true → zk_s (fun i => x i * a i j) m = 1) ∧ (∀ i, i < m → zk_s (fun j => a i j * y j) n ≤ 1) ∧ (∀ i, i < m → R i = true → zk_s (fun j => a i j * y j) n = 1) ∧ ∀ z : Nat → Rat, (∀ i, i < m → R i = false → z i = 0) → (∀ j, j < n → C j = true → zk_s (fun i => z i * a i j) m = 0) → ∀ i, i < m → z i = 0 := by
  have hL := zk_L_lin a m n
  obtain ⟨B, hB, -, hct, p, v, hd, ht⟩ := zk_lp hL (List.range (n + m)) (fun k hk => List.mem_range.mp hk) List.nodup_range _ (zk_L_bas a m n)
  have hO : (∀ i, i < n + m → 0 ≤ p i) ∧ ∀ j, j < n + m → B j = false → v j (n + m + 1) ≤ 0 := by
    rcases ht with ⟨o1, o2⟩ | ⟨i, i2, i3, i4, i5⟩ | ⟨j, u2, u3, u4, u5⟩
    · exact ⟨fun i hi => o1 i (List.mem_range.mpr hi), fun j hj => o2 j (List.mem_range.mpr hj)⟩
    · exfalso
      have hi : i < n + m := List.mem_range.mp i2
      have hw : zk_L a m n (fun k => if k < n then 0 else if k < n + m + 1 then 1 else 0) := by
        refine ⟨fun k hk => ?_, ?_⟩
        · show (if n + k < n then (0 : Rat) else if n + k < n + m + 1 then 1 else 0) = (if n + m < n then (0 : Rat) else if n + m < n + m + 1 then 1 else 0) - _
          rw [if_neg (by omega), if_pos (by omega), if_neg (by omega), if_pos (by omega), zk_s_zero (fun j hj => by (try dsimp only); rw [if_pos hj]; grind)]
          grind
        · show (if n + m + 1 < n then (0 : Rat) else if n + m + 1 < n + m + 1 then 1 else 0) = _
          rw [if_neg (by omega), if_neg (by omega), zk_s_zero (fun j hj => by (try dsimp only); rw [if_pos hj])]
      have e := zk_exp hL hB hd hw i (by omega)
      have hw0 : ∀ k, (0 : Rat) ≤ (if k < n then 0 else if k < n + m + 1 then 1 else 0) := by
        intro k
        by_cases h1 : k < n
        · rw [if_pos h1]; exact Rat.le_refl
        · rw [if_neg h1]
          by_cases h2 : k < n + m + 1
          · rw [if_pos h2]; decide
          · rw [if_neg h2]; exact Rat.le_refl
      have h1 := hw0 i
      have h2 : zk_s (fun j => if B j then 0 else (if j < n then 0 else if j < n + m + 1 then 1 else 0) * v j i) (n + m) ≤ 0 := by
        refine zk_s_le (fun k hk => ?_)
        by_cases hb : B k = true
        · simp only [hb, if_true]
          exact Rat.le_refl
        · have hb : B k = false := by simpa using hb
          simp only [hb]
          exact zk_pn (hw0 k) (i5 k (List.mem_range.mpr hk) hb)
      have h3 : (if n + m < n then (0 : Rat) else if n + m < n + m + 1 then 1 else 0) = 1 := by rw [if_neg (by omega), if_pos (by omega)]
      simp only [h3] at e
      grind
    · exfalso
      have hj := hd.2.2.2 j (List.mem_range.mp u2) u3
      have hf : 0 < zk_s (v j) n := by rw [← hj.1.2]; exact u4
      have h1 : ∃ k, k < n ∧ 0 < v j k := Classical.byContradiction fun hn => by
        have h2 : zk_s (v j) n ≤ 0 := zk_s_le (fun k hk => Rat.not_lt.mp (fun h => hn ⟨k, hk, h⟩))
        grind
      obtain ⟨k, hk, hk2⟩ := h1
      have h2 := hj.1.1 0 hm
      have h3 : 0 < zk_s (fun j' => a 0 j' * v j j') n := zk_s_pos (fun q hq => Rat.mul_nonneg (Rat.le_of_lt (ha 0 hm q hq)) (u5 q (List.mem_range.mpr (by omega)))) hk (Rat.mul_pos (ha 0 hm k hk) hk2)
      have h4 := u5 (n + 0) (List.mem_range.mpr (by omega))
      rw [h2, hj.2.1] at h4
      grind
  have hcnt : fb_ct (fun i => !B (n + i)) m = fb_ct B n := by
    have h1 := fb_ct_split B n m
    have h2 := fb_ct_not (fun k => B (n + k)) m
    have h3 := fb_ct_split (fun k => decide (n ≤ k)) n m
    have h4 : fb_ct (fun k => decide (n ≤ k)) n = 0 := fb_ct_zero.mpr (fun k hk => by simp; exact hk)
    have h5 : fb_ct (fun k => decide (n ≤ n + k)) m = m := fb_ct_all.mpr (fun k hk => by simp)
    omega
  have hs : ∀ i, i < m → p (n + i) = 1 - zk_s (fun j => a i j * p j) n := fun i hi => by rw [hd.1.1 i hi, hd.2.1]
  have hxA : ∀ j, j < n → zk_s (fun i => (if B (n + i) then 0 else -(v (n + i) (n + m + 1))) * a i j) m = 1 - (if B j then 0 else v j (n + m + 1)) := by
    intro j hj
    have he : zk_L a m n (fun k => if k < n then (if k = j then 1 else 0) else if k < n + m then -(a (k - n) j) else if k = n + m then 0 else 1) := by
      refine ⟨fun i hi => ?_, ?_⟩
      · show (if n + i < n then (if n + i = j then 1 else 0) else if n + i < n + m then -(a (n + i - n) j) else if n + i = n + m then 0 else 1) = (if n + m < n then (if n + m = j then 1 else 0) else if n + m < n + m then -(a (n + m - n) j) else if n + m = n + m then 0 else 1) - _
        rw [if_neg (by omega), if_pos (by omega), if_neg (by omega), if_neg (by omega), if_pos rfl, show n + i - n = i by omega, zk_s_one j hj (fun k hk hne => by (try dsimp only); rw [if_pos hk, if_neg hne]; grind)]
        (try dsimp only)
        rw [if_pos hj, if_pos rfl]
        grind
      · show (if n + m + 1 < n then (if n + m + 1 = j then 1 else 0) else if n + m + 1 < n + m then -(a (n + m + 1 - n) j) else if n + m + 1 = n + m then 0 else 1) = _
        rw [if_neg (by omega), if_neg (by omega), if_neg (by omega), zk_s_one j hj (fun k hk hne => by (try dsimp only); rw [if_pos hk, if_neg hne])]
        (try dsimp only)
        rw [if_pos hj, if_pos rfl]
    have e := zk_exp hL hB hd he (n + m + 1) (Nat.le_refl _)
    simp only [show ¬ n + m + 1 < n by omega, show ¬ n + m + 1 < n + m by omega, show ¬ n + m + 1 = n + m by omega, show ¬ n + m < n by omega, show ¬ n + m < n + m by omega, if_true, if_false] at e
    rw [zk_s_split] at e
    have e1 : zk_s (fun k => if B k then 0 else (if k < n then (if k = j then 1 else 0) else if k < n + m then -(a (k - n) j) else if k = n + m then 0 else 1) * v k (n + m + 1)) n = (if B j then 0 else v j (n + m + 1)) := by
      rw [zk_s_one j hj (fun k hk hne => by (try dsimp only); rw [if_pos hk, if_neg hne]; by_cases hb : B k = true <;> simp only [hb] <;> grind)]
      (try dsimp only)
      rw [if_pos hj, if_pos rfl]
      by_cases hb : B j = true <;> simp only [hb] <;> grind
    have e2 : zk_s (fun k => if B (n + k) then 0 else (if n + k < n then (if n + k = j then 1 else 0) else if n + k < n + m then -(a (n + k - n) j) else if n + k = n + m then 0 else 1) * v (n + k) (n + m + 1)) m = zk_s (fun i => (if B (n + i) then 0 else -(v (n + i) (n + m + 1))) * a i j) m := by
      refine zk_s_cong (fun k hk => ?_)
      rw [if_neg (show ¬ n + k < n by omega), if_pos (show n + k < n + m by omega), show n + k - n = k by omega]
      by_cases hb : B (n + k) = true <;> simp only [hb] <;> grind
    rw [e1, e2] at e
    grind
  refine ⟨fun i => !B (n + i), B, fun i => if B (n + i) then 0 else -(v (n + i) (n + m + 1)), p, hcnt, fun i hi => ?_, fun i hi hr => ?_, fun j hj => hO.1 j (by omega), fun j hj hc => hd.2.2.1 j (by omega) hc, fun j hj => ?_, fun j hj hc => ?_, fun i hi => ?_, fun i hi hr => ?_, ?_⟩
  · show 0 ≤ if B (n + i) then (0 : Rat) else -(v (n + i) (n + m + 1))
    by_cases hb : B (n + i) = true
    · simp only [hb, if_true]
      exact Rat.le_refl
    · have hb : B (n + i) = false := by simpa using hb
      have := hO.2 (n + i) (by omega) hb
      simp only [hb]
      show (0 : Rat) ≤ -(v (n + i) (n + m + 1))
      grind
  · have hb : B (n + i) = true := by simpa using hr
    show (if B (n + i) then (0 : Rat) else -(v (n + i) (n + m + 1))) = 0
    simp only [hb, if_true]
  · rw [hxA j hj]
    by_cases hb : B j = true
    · simp only [hb, if_true]
      grind
    · have hb : B j = false := by simpa using hb
      have := hO.2 j (by omega) hb
      simp only [hb]
      show (1 : Rat) ≤ 1 - v j (n + m + 1)
      grind
  · rw [hxA j hj]
    simp only [hc, if_true]
    grind
  · have h1 := hs i hi
    have h2 := hO.1 (n + i) (by omega)
    grind
  · have hb : B (n + i) = false := by simpa using hr
    have h1 := hs i hi
    have h2 := hd.2.2.1 (n + i) (by omega) hb
    grind
  · intro z hz hz2 i0 hi0
    by_cases hr : B (n + i0) = true
    · exact hz i0 hi0 (by simp [hr])
    · have hr : B (n + i0) = false := by simpa using hr
      have hw := hd.2.2.2 (n + i0) (by omega) hr
      have h1 : ∀ i, i < m → zk_s (fun j => a i j * v (n + i0) j) n = -(v (n + i0) (n + i)) := fun i hi => by
        have := hw.1.1 i hi
        rw [hw.2.1] at this
        grind
      have h2 : zk_s (fun i => zk_s (fun j => z i * (a i j * v (n + i0) j)) n) m = -(z i0) := by
        rw [zk_s_one i0 hi0 (fun i hi hne => ?_)]
        · rw [zk_s_mul, h1 i0 hi0, hw.2.2.1]
          grind
        · rw [zk_s_mul, h1 i hi]
          by_cases hb : B (n + i) = true
          · rw [hz i hi (by simp [hb])]
            grind
          · rw [hw.2.2.2 (n + i) (by omega) (by simpa using hb) (by omega)]
            grind
      have h3 : zk_s (fun j => zk_s (fun i => z i * (a i j * v (n + i0) j)) m) n = 0 := by
        refine zk_s_zero (fun j hj => ?_)
        rw [zk_s_cong (g := fun i => v (n + i0) j * (z i * a i j)) (fun i _ => by grind), zk_s_mul]
        by_cases hb : B j = true
        · rw [hz2 j hj hb]
          grind
        · rw [hw.2.2.2 j (by omega) (by simpa using hb) (by omega)]
          grind
      rw [zk_s_swap] at h2
      grind
