/-! the identities of part 65 together (printed by gen/gkern.py) -/
theorem zk_Aall {k : Nat} (hk : 1 ≤ k) (hk5 : k ≤ 5) {jp j : Nat} (hjp : jp < k) (hj : j < k) (b : Nat → Nat → Int) : fb_si (fun i => zk_cf (k - 1) b i jp * b i j) k = if j = jp then zk_dt k b else 0 := by
  rcases (show k = 1 ∨ k = 2 ∨ k = 3 ∨ k = 4 ∨ k = 5 by omega) with rfl | rfl | rfl | rfl | rfl
  · rcases (show jp = 0 by omega) with rfl
    · rcases (show j = 0 by omega) with rfl
      · exact zk_A1_0_0 b
  · rcases (show jp = 0 ∨ jp = 1 by omega) with rfl | rfl
    · rcases (show j = 0 ∨ j = 1 by omega) with rfl | rfl
      · exact zk_A2_0_0 b
      · exact zk_A2_0_1 b
    · rcases (show j = 0 ∨ j = 1 by omega) with rfl | rfl
      · exact zk_A2_1_0 b
      · exact zk_A2_1_1 b
  · rcases (show jp = 0 ∨ jp = 1 ∨ jp = 2 by omega) with rfl | rfl | rfl
    · rcases (show j = 0 ∨ j = 1 ∨ j = 2 by omega) with rfl | rfl | rfl
      · exact zk_A3_0_0 b
      · exact zk_A3_0_1 b
      · exact zk_A3_0_2 b
    · rcases (show j = 0 ∨ j = 1 ∨ j = 2 by omega) with rfl | rfl | rfl
      · exact zk_A3_1_0 b
      · exact zk_A3_1_1 b
      · exact zk_A3_1_2 b
    · rcases (show j = 0 ∨ j = 1 ∨ j = 2 by omega) with rfl | rfl | rfl
      · exact zk_A3_2_0 b
      · exact zk_A3_2_1 b
      · exact zk_A3_2_2 b
  · rcases (show jp = 0 ∨ jp = 1 ∨ jp = 2 ∨ jp = 3 by omega) with rfl | rfl | rfl | rfl
    · rcases (show j = 0 ∨ j = 1 ∨ j = 2 ∨ j = 3 by omega) with rfl | rfl | rfl | rfl
      · exact zk_A4_0_0 b
      · exact zk_A4_0_1 b
      · exact zk_A4_0_2 b
      · exact zk_A4_0_3 b
    · rcases (show j = 0 ∨ j = 1 ∨ j = 2 ∨ j = 3 by omega) with rfl | rfl | rfl | rfl
      · exact zk_A4_1_0 b
      · exact zk_A4_1_1 b
      · exact zk_A4_1_2 b
      · exact zk_A4_1_3 b
    · rcases (show j = 0 ∨ j = 1 ∨ j = 2 ∨ j = 3 by omega) with rfl | rfl | rfl | rfl
      · exact zk_A4_2_0 b
      · exact zk_A4_2_1 b
      · exact zk_A4_2_2 b
      · exact zk_A4_2_3 b
    · rcases (show j = 0 ∨ j = 1 ∨ j = 2 ∨ j = 3 by omega) with rfl | rfl | rfl | rfl
      · exact zk_A4_3_0 b
      · exact zk_A4_3_1 b
      · exact zk_A4_3_2 b
      · exact zk_A4_3_3 b
  · rcases (show jp = 0 ∨ jp = 1 ∨ jp = 2 ∨ jp = 3 ∨ jp = 4 by omega) with rfl | rfl | rfl | rfl | rfl
    · rcases (show j = 0 ∨ j = 1 ∨ j = 2 ∨ j = 3 ∨ j = 4 by omega) with rfl | rfl | rfl | rfl | rfl
      · exact zk_A5_0_0 b
      · exact zk_A5_0_1 b
      · exact zk_A5_0_2 b
      · exact zk_A5_0_3 b
      · exact zk_A5_0_4 b
    · rcases (show j = 0 ∨ j = 1 ∨ j = 2 ∨ j = 3 ∨ j = 4 by omega) with rfl | rfl | rfl | rfl | rfl
      · exact zk_A5_1_0 b
      · exact zk_A5_1_1 b
      · exact zk_A5_1_2 b
      · exact zk_A5_1_3 b
      · exact zk_A5_1_4 b
    · rcases (show j = 0 ∨ j = 1 ∨ j = 2 ∨ j = 3 ∨ j = 4 by omega) with rfl | rfl | rfl | rfl | rfl
      · exact zk_A5_2_0 b
      · exact zk_A5_2_1 b
      · exact zk_A5_2_2 b
      · exact zk_A5_2_3 b
      · exact zk_A5_2_4 b
    · rcases (show j = 0 ∨ j = 1 ∨ j = 2 ∨ j = 3 ∨ j = 4 by omega) with rfl | rfl | rfl | rfl | rfl
      · exact zk_A5_3_0 b
      · exact zk_A5_3_1 b
      · exact zk_A5_3_2 b
      · exact zk_A5_3_3 b
      · exact zk_A5_3_4 b
    · rcases (show j = 0 ∨ j = 1 ∨ j = 2 ∨ j = 3 ∨ j = 4 by omega) with rfl | rfl | rfl | rfl | rfl
      · exact zk_A5_4_0 b
      · exact zk_A5_4_1 b
      · exact zk_A5_4_2 b
      · exact zk_A5_4_3 b
      · exact zk_A5_4_4 b
theorem zk_Tall {k : Nat} (hk : 1 ≤ k) (hk5 : k ≤ 5) {o : Nat} (ho : o < k) (b : Nat → Nat → Int) : fb_si (fun j => zk_cf (k - 1) b o j) k = zk_sg o * zk_dt (k - 1) (fun p q => b (zk_sk o q) (p + 1) - b (zk_sk o q) 0) := by
  rcases (show k = 1 ∨ k = 2 ∨ k = 3 ∨ k = 4 ∨ k = 5 by omega) with rfl | rfl | rfl | rfl | rfl
  · rcases (show o = 0 by omega) with rfl
    · exact zk_T1_0 b
  · rcases (show o = 0 ∨ o = 1 by omega) with rfl | rfl
    · exact zk_T2_0 b
    · exact zk_T2_1 b
  · rcases (show o = 0 ∨ o = 1 ∨ o = 2 by omega) with rfl | rfl | rfl
    · exact zk_T3_0 b
    · exact zk_T3_1 b
    · exact zk_T3_2 b
  · rcases (show o = 0 ∨ o = 1 ∨ o = 2 ∨ o = 3 by omega) with rfl | rfl | rfl | rfl
    · exact zk_T4_0 b
    · exact zk_T4_1 b
    · exact zk_T4_2 b
    · exact zk_T4_3 b
  · rcases (show o = 0 ∨ o = 1 ∨ o = 2 ∨ o = 3 ∨ o = 4 by omega) with rfl | rfl | rfl | rfl | rfl
    · exact zk_T5_0 b
    · exact zk_T5_1 b
    · exact zk_T5_2 b
    · exact zk_T5_3 b
    · exact zk_T5_4 b
theorem zk_Eall {k : Nat} (hk : 1 ≤ k) (hk5 : k ≤ 5) {t : Nat} (ht : t < k) (b : Nat → Nat → Int) : zk_dt k b = zk_sg (k - 1 - t) * zk_dt k (fun i a => b i (if a < t then a else if a = t then k - 1 else a - 1)) := by
  rcases (show k = 1 ∨ k = 2 ∨ k = 3 ∨ k = 4 ∨ k = 5 by omega) with rfl | rfl | rfl | rfl | rfl
  · rcases (show t = 0 by omega) with rfl
    · exact zk_E1_0 b
  · rcases (show t = 0 ∨ t = 1 by omega) with rfl | rfl
    · exact zk_E2_0 b
    · exact zk_E2_1 b
  · rcases (show t = 0 ∨ t = 1 ∨ t = 2 by omega) with rfl | rfl | rfl
    · exact zk_E3_0 b
    · exact zk_E3_1 b
    · exact zk_E3_2 b
  · rcases (show t = 0 ∨ t = 1 ∨ t = 2 ∨ t = 3 by omega) with rfl | rfl | rfl | rfl
    · exact zk_E4_0 b
    · exact zk_E4_1 b
    · exact zk_E4_2 b
    · exact zk_E4_3 b
  · rcases (show t = 0 ∨ t = 1 ∨ t = 2 ∨ t = 3 ∨ t = 4 by omega) with rfl | rfl | rfl | rfl | rfl
    · exact zk_E5_0 b
    · exact zk_E5_1 b
    · exact zk_E5_2 b
    · exact zk_E5_3 b
    · exact zk_E5_4 b
theorem zk_TRall {k : Nat} (hk5 : k ≤ 5) (b : Nat → Nat → Int) : zk_dt k (fun i j => b j i) = zk_dt k b := by
  rcases (show k = 0 ∨ k = 1 ∨ k = 2 ∨ k = 3 ∨ k = 4 ∨ k = 5 by omega) with rfl | rfl | rfl | rfl | rfl | rfl
  · rfl
  · exact zk_TR1 b
  · exact zk_TR2 b
  · exact zk_TR3 b
  · exact zk_TR4 b
  · exact zk_TR5 b
