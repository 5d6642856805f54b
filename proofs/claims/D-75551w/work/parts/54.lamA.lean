set_option maxRecDepth 100000
/-- the word: a lambda's object of site j into an array of Measures -/
def zsLam (σ : zS) (G : Nat) (r : Option Nat) (i : Int32) (v : Option Nat) (j : Nat) (K : zS → Prop) : Prop := ∃ (a n b : Nat) (f : Nat → Option Nat) (caps : List Value), r = some a ∧ G ≤ a ∧ σ.1 a = some (.inl (7, n, .inr (.inr (.inr (.inr f))))) ∧ vp_in i n ∧ v = some b ∧ σ.1 b = some (.inr (64 + j, caps)) ∧ ∀ s : zS, s = (zup σ.1 a (.inl (7, n, .inr (.inr (.inr (.inr (va_up f i.toNatClampNeg v)))))), σ.2) → K s
/-- the word: a lambda's object of site j is made -/
abbrev zmkL (σ : zS) (j : Nat) (vals : List Value) (K : zS → Prop) : Prop := znew σ (64 + j) vals vals.length K
abbrev cX2_newMeasures : ByteArray := prog_20_method_18_code
def yX2_newMeasures : MethodName := ⟨RX2, "newMeasures", "(LPackingDuel$Sums;)[LPackingDuel$Measure;"⟩
def dkwX2_newMeasures_3 : List UInt8 := [16, 7, 42, 186, 0, 186, 0, 0, 83, 44, 16, 8, 42, 186, 0, 187, 0, 0, 83, 44, 176]
abbrev dktX2_newMeasures_3 : List UInt8 := dkwX2_newMeasures_3 ++ []
def dkwX2_newMeasures_2 : List UInt8 := [83, 44, 8, 42, 43, 186, 0, 182, 0, 0, 83, 44, 16, 6, 42, 43, 186, 0, 185, 0, 0, 83, 44]
abbrev dktX2_newMeasures_2 : List UInt8 := dkwX2_newMeasures_2 ++ dktX2_newMeasures_3
def dkwX2_newMeasures_1 : List UInt8 := [43, 186, 0, 175, 0, 0, 83, 44, 6, 42, 186, 0, 178, 0, 0, 83, 44, 7, 43, 186, 0, 181, 0, 0]
abbrev dktX2_newMeasures_1 : List UInt8 := dkwX2_newMeasures_1 ++ dktX2_newMeasures_2
def dkwX2_newMeasures_0 : List UInt8 := [16, 9, 189, 0, 169, 77, 44, 3, 186, 0, 171, 0, 0, 83, 44, 4, 186, 0, 174, 0, 0, 83, 44, 5]
abbrev dktX2_newMeasures_0 : List UInt8 := dkwX2_newMeasures_0 ++ dktX2_newMeasures_1
theorem dksX2_newMeasures_0 : cX2_newMeasures.data.toList.drop 0 = dktX2_newMeasures_0 := by decide +kernel
theorem dksX2_newMeasures_1 : cX2_newMeasures.data.toList.drop 24 = dktX2_newMeasures_1 := dk_seg dksX2_newMeasures_0 24 rfl rfl
theorem dksX2_newMeasures_2 : cX2_newMeasures.data.toList.drop 48 = dktX2_newMeasures_2 := dk_seg dksX2_newMeasures_1 24 rfl rfl
theorem dksX2_newMeasures_3 : cX2_newMeasures.data.toList.drop 71 = dktX2_newMeasures_3 := dk_seg dksX2_newMeasures_2 23 rfl rfl
theorem dX2_newMeasures_0 : decode cX2_newMeasures 0 = .ok (.bipush 9, 2) := dk_16 9 (dk_at dksX2_newMeasures_0 0 rfl rfl)
theorem dX2_newMeasures_2 : decode cX2_newMeasures 2 = .ok (.anewarray 169, 3) := dk_189 0 169 (dk_at dksX2_newMeasures_0 2 rfl rfl)
theorem dX2_newMeasures_5 : decode cX2_newMeasures 5 = .ok (.astore_n 2, 1) := dk_77 (dk_at dksX2_newMeasures_0 5 rfl rfl)
theorem dX2_newMeasures_6 : decode cX2_newMeasures 6 = .ok (.aload_n 2, 1) := dk_44 (dk_at dksX2_newMeasures_0 6 rfl rfl)
theorem dX2_newMeasures_7 : decode cX2_newMeasures 7 = .ok (.iconst 0, 1) := dk_3 (dk_at dksX2_newMeasures_0 7 rfl rfl)
theorem dX2_newMeasures_8 : decode cX2_newMeasures 8 = .ok (.invokedynamic 171, 5) := by decide +kernel
theorem dX2_newMeasures_13 : decode cX2_newMeasures 13 = .ok (.aastore, 1) := dk_83 (dk_at dksX2_newMeasures_0 13 rfl rfl)
theorem dX2_newMeasures_14 : decode cX2_newMeasures 14 = .ok (.aload_n 2, 1) := dk_44 (dk_at dksX2_newMeasures_0 14 rfl rfl)
theorem dX2_newMeasures_15 : decode cX2_newMeasures 15 = .ok (.iconst 1, 1) := dk_4 (dk_at dksX2_newMeasures_0 15 rfl rfl)
theorem dX2_newMeasures_16 : decode cX2_newMeasures 16 = .ok (.invokedynamic 174, 5) := by decide +kernel
theorem dX2_newMeasures_21 : decode cX2_newMeasures 21 = .ok (.aastore, 1) := dk_83 (dk_at dksX2_newMeasures_0 21 rfl rfl)
theorem dX2_newMeasures_22 : decode cX2_newMeasures 22 = .ok (.aload_n 2, 1) := dk_44 (dk_at dksX2_newMeasures_0 22 rfl rfl)
theorem dX2_newMeasures_23 : decode cX2_newMeasures 23 = .ok (.iconst 2, 1) := dk_5 (dk_at dksX2_newMeasures_0 23 rfl rfl)
theorem dX2_newMeasures_24 : decode cX2_newMeasures 24 = .ok (.aload_n 1, 1) := dk_43 (dk_at dksX2_newMeasures_1 0 rfl rfl)
theorem dX2_newMeasures_25 : decode cX2_newMeasures 25 = .ok (.invokedynamic 175, 5) := by decide +kernel
theorem dX2_newMeasures_30 : decode cX2_newMeasures 30 = .ok (.aastore, 1) := dk_83 (dk_at dksX2_newMeasures_1 6 rfl rfl)
theorem dX2_newMeasures_31 : decode cX2_newMeasures 31 = .ok (.aload_n 2, 1) := dk_44 (dk_at dksX2_newMeasures_1 7 rfl rfl)
theorem dX2_newMeasures_32 : decode cX2_newMeasures 32 = .ok (.iconst 3, 1) := dk_6 (dk_at dksX2_newMeasures_1 8 rfl rfl)
theorem dX2_newMeasures_33 : decode cX2_newMeasures 33 = .ok (.aload_n 0, 1) := dk_42 (dk_at dksX2_newMeasures_1 9 rfl rfl)
theorem dX2_newMeasures_34 : decode cX2_newMeasures 34 = .ok (.invokedynamic 178, 5) := by decide +kernel
theorem dX2_newMeasures_39 : decode cX2_newMeasures 39 = .ok (.aastore, 1) := dk_83 (dk_at dksX2_newMeasures_1 15 rfl rfl)
theorem dX2_newMeasures_40 : decode cX2_newMeasures 40 = .ok (.aload_n 2, 1) := dk_44 (dk_at dksX2_newMeasures_1 16 rfl rfl)
theorem dX2_newMeasures_41 : decode cX2_newMeasures 41 = .ok (.iconst 4, 1) := dk_7 (dk_at dksX2_newMeasures_1 17 rfl rfl)
theorem dX2_newMeasures_42 : decode cX2_newMeasures 42 = .ok (.aload_n 1, 1) := dk_43 (dk_at dksX2_newMeasures_1 18 rfl rfl)
theorem dX2_newMeasures_43 : decode cX2_newMeasures 43 = .ok (.invokedynamic 181, 5) := by decide +kernel
theorem dX2_newMeasures_48 : decode cX2_newMeasures 48 = .ok (.aastore, 1) := dk_83 (dk_at dksX2_newMeasures_2 0 rfl rfl)
theorem dX2_newMeasures_49 : decode cX2_newMeasures 49 = .ok (.aload_n 2, 1) := dk_44 (dk_at dksX2_newMeasures_2 1 rfl rfl)
theorem dX2_newMeasures_50 : decode cX2_newMeasures 50 = .ok (.iconst 5, 1) := dk_8 (dk_at dksX2_newMeasures_2 2 rfl rfl)
theorem dX2_newMeasures_51 : decode cX2_newMeasures 51 = .ok (.aload_n 0, 1) := dk_42 (dk_at dksX2_newMeasures_2 3 rfl rfl)
theorem dX2_newMeasures_52 : decode cX2_newMeasures 52 = .ok (.aload_n 1, 1) := dk_43 (dk_at dksX2_newMeasures_2 4 rfl rfl)
theorem dX2_newMeasures_53 : decode cX2_newMeasures 53 = .ok (.invokedynamic 182, 5) := by decide +kernel
theorem dX2_newMeasures_58 : decode cX2_newMeasures 58 = .ok (.aastore, 1) := dk_83 (dk_at dksX2_newMeasures_2 10 rfl rfl)
theorem dX2_newMeasures_59 : decode cX2_newMeasures 59 = .ok (.aload_n 2, 1) := dk_44 (dk_at dksX2_newMeasures_2 11 rfl rfl)
theorem dX2_newMeasures_60 : decode cX2_newMeasures 60 = .ok (.bipush 6, 2) := dk_16 6 (dk_at dksX2_newMeasures_2 12 rfl rfl)
theorem dX2_newMeasures_62 : decode cX2_newMeasures 62 = .ok (.aload_n 0, 1) := dk_42 (dk_at dksX2_newMeasures_2 14 rfl rfl)
theorem dX2_newMeasures_63 : decode cX2_newMeasures 63 = .ok (.aload_n 1, 1) := dk_43 (dk_at dksX2_newMeasures_2 15 rfl rfl)
theorem dX2_newMeasures_64 : decode cX2_newMeasures 64 = .ok (.invokedynamic 185, 5) := by decide +kernel
theorem dX2_newMeasures_69 : decode cX2_newMeasures 69 = .ok (.aastore, 1) := dk_83 (dk_at dksX2_newMeasures_2 21 rfl rfl)
theorem dX2_newMeasures_70 : decode cX2_newMeasures 70 = .ok (.aload_n 2, 1) := dk_44 (dk_at dksX2_newMeasures_2 22 rfl rfl)
theorem dX2_newMeasures_71 : decode cX2_newMeasures 71 = .ok (.bipush 7, 2) := dk_16 7 (dk_at dksX2_newMeasures_3 0 rfl rfl)
theorem dX2_newMeasures_73 : decode cX2_newMeasures 73 = .ok (.aload_n 0, 1) := dk_42 (dk_at dksX2_newMeasures_3 2 rfl rfl)
theorem dX2_newMeasures_74 : decode cX2_newMeasures 74 = .ok (.invokedynamic 186, 5) := by decide +kernel
theorem dX2_newMeasures_79 : decode cX2_newMeasures 79 = .ok (.aastore, 1) := dk_83 (dk_at dksX2_newMeasures_3 8 rfl rfl)
theorem dX2_newMeasures_80 : decode cX2_newMeasures 80 = .ok (.aload_n 2, 1) := dk_44 (dk_at dksX2_newMeasures_3 9 rfl rfl)
theorem dX2_newMeasures_81 : decode cX2_newMeasures 81 = .ok (.bipush 8, 2) := dk_16 8 (dk_at dksX2_newMeasures_3 10 rfl rfl)
theorem dX2_newMeasures_83 : decode cX2_newMeasures 83 = .ok (.aload_n 0, 1) := dk_42 (dk_at dksX2_newMeasures_3 12 rfl rfl)
theorem dX2_newMeasures_84 : decode cX2_newMeasures 84 = .ok (.invokedynamic 187, 5) := by decide +kernel
theorem dX2_newMeasures_89 : decode cX2_newMeasures 89 = .ok (.aastore, 1) := dk_83 (dk_at dksX2_newMeasures_3 18 rfl rfl)
theorem dX2_newMeasures_90 : decode cX2_newMeasures 90 = .ok (.aload_n 2, 1) := dk_44 (dk_at dksX2_newMeasures_3 19 rfl rfl)
theorem dX2_newMeasures_91 : decode cX2_newMeasures 91 = .ok (.areturn, 1) := dk_176 (dk_at dksX2_newMeasures_3 20 rfl rfl)
/-- PackingDuel$State.newMeasures -/
def zb115 (G : zPg) (C : zO) (args : List Value) (Q : zQ) (Y : zY) (σ : zS) : Prop := ∃ (a0 : Nat) (x1 : Option Nat), args = [.ref a0, va_rf x1] ∧ (znewA σ 7 (9 : Int32) (.inr (.inr (.inr (.inr (fun _ => none))))) (fun s0 => zsLam s0 G.1 (some σ.2.1) (0 : Int32) (some (G.2 70)) 0 (fun s0n => zsLam s0n G.1 (some σ.2.1) (1 : Int32) (some (G.2 71)) 1 (fun s1n => zmkL s1n 2 [va_rf x1] (fun s2m => zsLam s2m G.1 (some σ.2.1) (2 : Int32) (some s1n.2.1) 2 (fun s2n => zmkL s2n 3 [.ref a0] (fun s3m => zsLam s3m G.1 (some σ.2.1) (3 : Int32) (some s2n.2.1) 3 (fun s3n => zmkL s3n 4 [va_rf x1] (fun s4m => zsLam s4m G.1 (some σ.2.1) (4 : Int32) (some s3n.2.1) 4 (fun s4n => zmkL s4n 5 [.ref a0, va_rf x1] (fun s5m => zsLam s5m G.1 (some σ.2.1) (5 : Int32) (some s4n.2.1) 5 (fun s5n => zmkL s5n 6 [.ref a0, va_rf x1] (fun s6m => zsLam s6m G.1 (some σ.2.1) (6 : Int32) (some s5n.2.1) 6 (fun s6n => zmkL s6n 7 [.ref a0] (fun s7m => zsLam s7m G.1 (some σ.2.1) (7 : Int32) (some s6n.2.1) 7 (fun s7n => zmkL s7n 8 [.ref a0] (fun s8m => zsLam s8m G.1 (some σ.2.1) (8 : Int32) (some s7n.2.1) 8 (fun s8n => Q (some (va_rf (some σ.2.1))) s8n))))))))))))))))))
set_option maxHeartbeats 4000000 in
theorem wk115 {l : Launch} {g : zG} {d : Nat} {C : zO} (hG : zGk g) (hC : zSound l g d C) {args : List Value} {Q : zQ} {Y : zY} {σ : zS} (hw : zb115 (zpg g) C args Q Y σ) : zMet l g (d + 1) (⟨"PackingDuel$State", "newMeasures", "(LPackingDuel$Sums;)[LPackingDuel$Measure;"⟩, Cond.code ⟨"PackingDuel$State", "newMeasures", "(LPackingDuel$Sums;)[LPackingDuel$Measure;"⟩ prog_20_method_18_code 3 (Option.some (FieldType.array (FieldType.object "PackingDuel$Measure")))) args σ Q Y := by
  obtain ⟨a0, x1, rfl, hw⟩ := hw
  refine zofN hG (by decide +kernel) [false, false] ⟨rfl, zc_rf _, trivial⟩ (Nat.le_of_ble_eq_true rfl) (ls := [some (va_rf (some a0)), some (va_rf x1), none]) rfl ?_
  intro X hX hR hTb hd1 hd2 hl hg hnm hN
  subst hl
  subst hg
  have hd : zDep X d := ⟨hd1, hd2⟩
  refine z_bipush hX (v := (9 : Int32)) dX2_newMeasures_0 (by decide) ?_
  refine z_anew hX 7 dX2_newMeasures_2 q2408 q2409 rfl rfl hw.1 hw.2.1 hw.2.2.1 hw.2.2.2.1 (fun z0 => z_nm (fun s0 e0 => ?_))
  have hw := hw.2.2.2.2 z0 s0 e0
  refine z_astore_n hX dX2_newMeasures_5 rfl (i := 2) (Nat.le_of_ble_eq_true rfl) (zc_rf _) (ls2 := [some (va_rf (some a0)), some (va_rf x1), some (va_rf (some σ.2.1))]) rfl ?_
  refine z_aload_n hX dX2_newMeasures_6 rfl (i := 2) rfl ?_
  refine z_iconst hX (v := (0 : Int32)) dX2_newMeasures_7 (by decide) ?_
  refine z_dyn0 hX hd hN (j := 0) (congrArg some zLw0) rfl dX2_newMeasures_8 rfl (zcs8 (Nat.le_of_ble_eq_true rfl)) ?_
  obtain ⟨a, n, b, f, caps, w1, w2, w3, w4, w5, w6, hw⟩ := hw
  refine z_aastL hX (j := 0) (congrArg some zLw0) rfl rfl dX2_newMeasures_13 w1 w2 w3 w4 w5 w6 (z_nm (fun s0n e => ?_))
  have hw := hw s0n e
  refine z_aload_n hX dX2_newMeasures_14 rfl (i := 2) rfl ?_
  refine z_iconst hX (v := (1 : Int32)) dX2_newMeasures_15 (by decide) ?_
  refine z_dyn0 hX hd hN (j := 1) (congrArg some zLw1) rfl dX2_newMeasures_16 rfl (zcs8 (Nat.le_of_ble_eq_true rfl)) ?_
  obtain ⟨a, n, b, f, caps, w1, w2, w3, w4, w5, w6, hw⟩ := hw
  refine z_aastL hX (j := 1) (congrArg some zLw1) rfl rfl dX2_newMeasures_21 w1 w2 w3 w4 w5 w6 (z_nm (fun s1n e => ?_))
  have hw := hw s1n e
  refine z_aload_n hX dX2_newMeasures_22 rfl (i := 2) rfl ?_
  refine z_iconst hX (v := (2 : Int32)) dX2_newMeasures_23 (by decide) ?_
  refine z_aload_n hX dX2_newMeasures_24 rfl (i := 1) rfl ?_
  refine z_dynM hX hd hN (j := 2) (vals := [va_rf x1]) (st := [.int (2 : Int32), va_rf (some σ.2.1)]) zLi2 zLs2 zLy2 zLc2 zLg2 rfl q3233 (congrArg some zLw2) rfl rfl (by decide) (by rw [zLt2]; show [narrow _ (va_rf x1)] = [va_rf x1]; first | rfl | (simp only [zn_o]; done) | (simp only [zn_o]; rfl)) (by
      intro i v hv
      match i, hv with
      | 0, hv => exact ⟨_, by rw [zLt2]; rfl, by cases hv; exact zf_o _ _⟩
      | n + 1, hv => simp at hv) dX2_newMeasures_25 rfl (Nat.le_trans (zcs8 (Nat.le_of_ble_eq_true rfl)) (by decide)) hw.1 hw.2.1 (fun z => z_nm (fun s2m e => ?_))
  have hw := hw.2.2 z s2m e
  obtain ⟨a, n, b, f, caps, w1, w2, w3, w4, w5, w6, hw⟩ := hw
  refine z_aastL hX (j := 2) (congrArg some zLw2) rfl rfl dX2_newMeasures_30 w1 w2 w3 w4 w5 w6 (z_nm (fun s2n e => ?_))
  have hw := hw s2n e
  refine z_aload_n hX dX2_newMeasures_31 rfl (i := 2) rfl ?_
  refine z_iconst hX (v := (3 : Int32)) dX2_newMeasures_32 (by decide) ?_
  refine z_aload_n hX dX2_newMeasures_33 rfl (i := 0) rfl ?_
  refine z_dynM hX hd hN (j := 3) (vals := [.ref a0]) (st := [.int (3 : Int32), va_rf (some σ.2.1)]) zLi3 zLs3 zLy3 zLc3 zLg3 rfl q3233 (congrArg some zLw3) rfl rfl (by decide) (by rw [zLt3]; rfl) (by
      intro i v hv
      match i, hv with
      | 0, hv => exact ⟨_, by rw [zLt3]; rfl, by cases hv; exact rfl⟩
      | n + 1, hv => simp at hv) dX2_newMeasures_34 rfl (Nat.le_trans (zcs8 (Nat.le_of_ble_eq_true rfl)) (by decide)) hw.1 hw.2.1 (fun z => z_nm (fun s3m e => ?_))
  have hw := hw.2.2 z s3m e
  obtain ⟨a, n, b, f, caps, w1, w2, w3, w4, w5, w6, hw⟩ := hw
  refine z_aastL hX (j := 3) (congrArg some zLw3) rfl rfl dX2_newMeasures_39 w1 w2 w3 w4 w5 w6 (z_nm (fun s3n e => ?_))
  have hw := hw s3n e
  refine z_aload_n hX dX2_newMeasures_40 rfl (i := 2) rfl ?_
  refine z_iconst hX (v := (4 : Int32)) dX2_newMeasures_41 (by decide) ?_
  refine z_aload_n hX dX2_newMeasures_42 rfl (i := 1) rfl ?_
  refine z_dynM hX hd hN (j := 4) (vals := [va_rf x1]) (st := [.int (4 : Int32), va_rf (some σ.2.1)]) zLi4 zLs4 zLy4 zLc4 zLg4 rfl q3233 (congrArg some zLw4) rfl rfl (by decide) (by rw [zLt4]; show [narrow _ (va_rf x1)] = [va_rf x1]; first | rfl | (simp only [zn_o]; done) | (simp only [zn_o]; rfl)) (by
      intro i v hv
      match i, hv with
      | 0, hv => exact ⟨_, by rw [zLt4]; rfl, by cases hv; exact zf_o _ _⟩
      | n + 1, hv => simp at hv) dX2_newMeasures_43 rfl (Nat.le_trans (zcs8 (Nat.le_of_ble_eq_true rfl)) (by decide)) hw.1 hw.2.1 (fun z => z_nm (fun s4m e => ?_))
  have hw := hw.2.2 z s4m e
  obtain ⟨a, n, b, f, caps, w1, w2, w3, w4, w5, w6, hw⟩ := hw
  refine z_aastL hX (j := 4) (congrArg some zLw4) rfl rfl dX2_newMeasures_48 w1 w2 w3 w4 w5 w6 (z_nm (fun s4n e => ?_))
  have hw := hw s4n e
  refine z_aload_n hX dX2_newMeasures_49 rfl (i := 2) rfl ?_
  refine z_iconst hX (v := (5 : Int32)) dX2_newMeasures_50 (by decide) ?_
  refine z_aload_n hX dX2_newMeasures_51 rfl (i := 0) rfl ?_
  refine z_aload_n hX dX2_newMeasures_52 rfl (i := 1) rfl ?_
  refine z_dynM hX hd hN (j := 5) (vals := [.ref a0, va_rf x1]) (st := [.int (5 : Int32), va_rf (some σ.2.1)]) zLi5 zLs5 zLy5 zLc5 zLg5 rfl q3233 (congrArg some zLw5) rfl rfl (by decide) (by rw [zLt5]; show [narrow _ (.ref a0), narrow _ (va_rf x1)] = [.ref a0, va_rf x1]; first | rfl | (simp only [zn_o]; done) | (simp only [zn_o]; rfl)) (by
      intro i v hv
      match i, hv with
      | 0, hv => exact ⟨_, by rw [zLt5]; rfl, by cases hv; exact rfl⟩
      | 1, hv => exact ⟨_, by rw [zLt5]; rfl, by cases hv; exact zf_o _ _⟩
      | n + 2, hv => simp at hv) dX2_newMeasures_53 rfl (Nat.le_trans (zcs8 (Nat.le_of_ble_eq_true rfl)) (by decide)) hw.1 hw.2.1 (fun z => z_nm (fun s5m e => ?_))
  have hw := hw.2.2 z s5m e
  obtain ⟨a, n, b, f, caps, w1, w2, w3, w4, w5, w6, hw⟩ := hw
  refine z_aastL hX (j := 5) (congrArg some zLw5) rfl rfl dX2_newMeasures_58 w1 w2 w3 w4 w5 w6 (z_nm (fun s5n e => ?_))
  have hw := hw s5n e
  refine z_aload_n hX dX2_newMeasures_59 rfl (i := 2) rfl ?_
  refine z_bipush hX (v := (6 : Int32)) dX2_newMeasures_60 (by decide) ?_
  refine z_aload_n hX dX2_newMeasures_62 rfl (i := 0) rfl ?_
  refine z_aload_n hX dX2_newMeasures_63 rfl (i := 1) rfl ?_
  refine z_dynM hX hd hN (j := 6) (vals := [.ref a0, va_rf x1]) (st := [.int (6 : Int32), va_rf (some σ.2.1)]) zLi6 zLs6 zLy6 zLc6 zLg6 rfl q3233 (congrArg some zLw6) rfl rfl (by decide) (by rw [zLt6]; show [narrow _ (.ref a0), narrow _ (va_rf x1)] = [.ref a0, va_rf x1]; first | rfl | (simp only [zn_o]; done) | (simp only [zn_o]; rfl)) (by
      intro i v hv
      match i, hv with
      | 0, hv => exact ⟨_, by rw [zLt6]; rfl, by cases hv; exact rfl⟩
      | 1, hv => exact ⟨_, by rw [zLt6]; rfl, by cases hv; exact zf_o _ _⟩
      | n + 2, hv => simp at hv) dX2_newMeasures_64 rfl (Nat.le_trans (zcs8 (Nat.le_of_ble_eq_true rfl)) (by decide)) hw.1 hw.2.1 (fun z => z_nm (fun s6m e => ?_))
  have hw := hw.2.2 z s6m e
  obtain ⟨a, n, b, f, caps, w1, w2, w3, w4, w5, w6, hw⟩ := hw
  refine z_aastL hX (j := 6) (congrArg some zLw6) rfl rfl dX2_newMeasures_69 w1 w2 w3 w4 w5 w6 (z_nm (fun s6n e => ?_))
  have hw := hw s6n e
  refine z_aload_n hX dX2_newMeasures_70 rfl (i := 2) rfl ?_
  refine z_bipush hX (v := (7 : Int32)) dX2_newMeasures_71 (by decide) ?_
  refine z_aload_n hX dX2_newMeasures_73 rfl (i := 0) rfl ?_
  refine z_dynM hX hd hN (j := 7) (vals := [.ref a0]) (st := [.int (7 : Int32), va_rf (some σ.2.1)]) zLi7 zLs7 zLy7 zLc7 zLg7 rfl q3233 (congrArg some zLw7) rfl rfl (by decide) (by rw [zLt7]; rfl) (by
      intro i v hv
      match i, hv with
      | 0, hv => exact ⟨_, by rw [zLt7]; rfl, by cases hv; exact rfl⟩
      | n + 1, hv => simp at hv) dX2_newMeasures_74 rfl (Nat.le_trans (zcs8 (Nat.le_of_ble_eq_true rfl)) (by decide)) hw.1 hw.2.1 (fun z => z_nm (fun s7m e => ?_))
  have hw := hw.2.2 z s7m e
  obtain ⟨a, n, b, f, caps, w1, w2, w3, w4, w5, w6, hw⟩ := hw
  refine z_aastL hX (j := 7) (congrArg some zLw7) rfl rfl dX2_newMeasures_79 w1 w2 w3 w4 w5 w6 (z_nm (fun s7n e => ?_))
  have hw := hw s7n e
  refine z_aload_n hX dX2_newMeasures_80 rfl (i := 2) rfl ?_
  refine z_bipush hX (v := (8 : Int32)) dX2_newMeasures_81 (by decide) ?_
  refine z_aload_n hX dX2_newMeasures_83 rfl (i := 0) rfl ?_
  refine z_dynM hX hd hN (j := 8) (vals := [.ref a0]) (st := [.int (8 : Int32), va_rf (some σ.2.1)]) zLi8 zLs8 zLy8 zLc8 zLg8 rfl q3233 (congrArg some zLw8) rfl rfl (by decide) (by rw [zLt8]; rfl) (by
      intro i v hv
      match i, hv with
      | 0, hv => exact ⟨_, by rw [zLt8]; rfl, by cases hv; exact rfl⟩
      | n + 1, hv => simp at hv) dX2_newMeasures_84 rfl (Nat.le_trans (zcs8 (Nat.le_of_ble_eq_true rfl)) (by decide)) hw.1 hw.2.1 (fun z => z_nm (fun s8m e => ?_))
  have hw := hw.2.2 z s8m e
  obtain ⟨a, n, b, f, caps, w1, w2, w3, w4, w5, w6, hw⟩ := hw
  refine z_aastL hX (j := 8) (congrArg some zLw8) rfl rfl dX2_newMeasures_89 w1 w2 w3 w4 w5 w6 (z_nm (fun s8n e => ?_))
  have hw := hw s8n e
  refine z_aload_n hX dX2_newMeasures_90 rfl (i := 2) rfl ?_
  exact z_areturn hX hR dX2_newMeasures_91 (Or.inr ⟨_, rfl⟩) hw
