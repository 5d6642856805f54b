set_option maxRecDepth 100000
def RX0 : String := "PackingDuelLaw"
abbrev cX0_load : ByteArray := method_3_code
def yX0_load : MethodName := ⟨RX0, "load", "(LPackingDuel;I[J)I"⟩
def dkwX0_load_0 : List UInt8 := [44, 3, 42, 27, 182, 0, 7, 133, 80, 167, 0, 6, 78, 4, 172, 3, 172]
abbrev dktX0_load_0 : List UInt8 := dkwX0_load_0 ++ []
theorem dksX0_load_0 : cX0_load.data.toList.drop 0 = dktX0_load_0 := by decide +kernel
theorem dX0_load_0 : decode cX0_load 0 = .ok (.aload_n 2, 1) := dk_44 (dk_at dksX0_load_0 0 rfl rfl)
theorem dX0_load_1 : decode cX0_load 1 = .ok (.iconst 0, 1) := dk_3 (dk_at dksX0_load_0 1 rfl rfl)
theorem dX0_load_2 : decode cX0_load 2 = .ok (.aload_n 0, 1) := dk_42 (dk_at dksX0_load_0 2 rfl rfl)
theorem dX0_load_3 : decode cX0_load 3 = .ok (.iload_n 1, 1) := dk_27 (dk_at dksX0_load_0 3 rfl rfl)
theorem dX0_load_4 : decode cX0_load 4 = .ok (.invokevirtual 7, 3) := dk_182 0 7 (dk_at dksX0_load_0 4 rfl rfl)
theorem dX0_load_7 : decode cX0_load 7 = .ok (.i2l, 1) := dk_133 (dk_at dksX0_load_0 7 rfl rfl)
theorem dX0_load_8 : decode cX0_load 8 = .ok (.lastore, 1) := dk_80 (dk_at dksX0_load_0 8 rfl rfl)
theorem dX0_load_9 : decode cX0_load 9 = .ok (.goto 6, 3) := dk_167 0 6 (dk_at dksX0_load_0 9 rfl rfl)
theorem dX0_load_12 : decode cX0_load 12 = .ok (.astore_n 3, 1) := dk_78 (dk_at dksX0_load_0 12 rfl rfl)
theorem dX0_load_13 : decode cX0_load 13 = .ok (.iconst 1, 1) := dk_4 (dk_at dksX0_load_0 13 rfl rfl)
theorem dX0_load_14 : decode cX0_load 14 = .ok (.ireturn, 1) := dk_172 (dk_at dksX0_load_0 14 rfl rfl)
theorem dX0_load_15 : decode cX0_load 15 = .ok (.iconst 0, 1) := dk_3 (dk_at dksX0_load_0 15 rfl rfl)
theorem dX0_load_16 : decode cX0_load 16 = .ok (.ireturn, 1) := dk_172 (dk_at dksX0_load_0 16 rfl rfl)
/-- PackingDuelLaw.load(LPackingDuel;I[J)I -/
def zb0 (G : zPg) (C : zO) (args : List Value) (Q : zQ) (Y : zY) (σ : zS) : Prop := ∃ (x1 : Option Nat) (x2 : Int32) (x3 : Option Nat), args = [va_rf x1, .int x2, va_rf x3] ∧ (zrc σ x1 0 (fun a8 => zcl C 49 [.ref a8, .int x2] (fun q3 s4 => (∃ f5, s4.1 q3 = some (.inr (6, f5)) ∧ Q (some (.int (1 : Int32))) s4)) σ (zqI (fun v1 s2 => zsL s2 G.1 x3 (0 : Int32) v1.toInt64 (fun s19 => Q (some (.int (0 : Int32))) s19)))))
set_option maxHeartbeats 4000000 in
theorem wk0 {l : Launch} {g : zG} {d : Nat} {C : zO} (hG : zGk g) (hC : zSound l g d C) {args : List Value} {Q : zQ} {Y : zY} {σ : zS} (hw : zb0 (zpg g) C args Q Y σ) : zMet l g (d + 1) (⟨"PackingDuelLaw", "load", "(LPackingDuel;I[J)I"⟩, Cond.codeWith ⟨"PackingDuelLaw", "load", "(LPackingDuel;I[J)I"⟩ method_3_code 4 (Option.some FieldType.int) [(0, 9, 12, 13)]) args σ Q Y := by
  obtain ⟨x1, x2, x3, rfl, hw⟩ := hw
  refine zofW hG (by decide +kernel) [false, false, false] ⟨(zc_rf _), rfl, (zc_rf _), trivial⟩ (Nat.le_of_ble_eq_true rfl) (ls := [some (va_rf x1), some (.int x2), some (va_rf x3), none]) rfl ?_
  intro X hX hR hTt hd1 hd2 hl hg hnm
  subst hl
  subst hg
  have hd : zDep X d := ⟨hd1, hd2⟩
  refine z_aload_n hX dX0_load_0 rfl (i := 2) rfl ?_
  refine z_iconst hX (v := (0 : Int32)) dX0_load_1 (by decide) ?_
  refine z_aload_n hX dX0_load_2 rfl (i := 0) rfl ?_
  refine z_iload_n hX dX0_load_3 rfl (i := 1) rfl ?_
  obtain ⟨a8, f9, r10, m11, hw⟩ := hw
  refine z_invVX hX hd r10 (ci := 0) rfl rfl m11 dX0_load_4 (hC 49 _ zm49 _ _ _ _ hw) q1057 q1058 q1059 zh1 q1060 q130 zn49 rfl (Nat.le_of_ble_eq_true rfl) (st := [.int (0 : Int32), va_rf x3]) rfl (zcs8 (Nat.le_of_ble_eq_true rfl)) rfl (zkI (fun v1 s2 hw => ?_)) (fun q3 s4 hw => by obtain ⟨f5, m6, hw⟩ := hw; refine z_catch hX [] ⟨0, 9, 12, 13⟩ [] (by rw [hTt]; rfl) (fun _ h => by cases h) (by decide) (by decide) q1056 (Or.inl rfl) (ci := 6) rfl rfl m6 ?_; show zW X s4 12 _ _; refine z_astore_n hX dX0_load_12 rfl (i := 3) (Nat.le_of_ble_eq_true rfl) (zc_rf _) (ls2 := [some (va_rf x1), some (.int x2), some (va_rf x3), some (va_rf (some q3))]) rfl ?_; refine z_iconst hX (v := (1 : Int32)) dX0_load_13 (by decide) ?_; exact z_ireturn hX hR dX0_load_14 rfl hw)
  refine z_i2l hX dX0_load_7 ?_
  obtain ⟨a12, n13, f14, r15, g16, m17, i18, hw⟩ := hw
  refine z_last hX dX0_load_8 r15 g16 m17 i18 (z_nm (fun s19 e20 => ?_))
  have hw := hw s19 e20
  refine z_goto hX dX0_load_9 (tgt := 15) rfl ?_
  refine z_iconst hX (v := (0 : Int32)) dX0_load_15 (by decide) ?_
  exact z_ireturn hX hR dX0_load_16 rfl hw
abbrev cX0_size : ByteArray := method_4_code
def yX0_size : MethodName := ⟨RX0, "size", "(LPackingDuel;I[J)I"⟩
def dkwX0_size_0 : List UInt8 := [44, 3, 42, 27, 182, 0, 15, 133, 80, 167, 0, 6, 78, 4, 172, 3, 172]
abbrev dktX0_size_0 : List UInt8 := dkwX0_size_0 ++ []
theorem dksX0_size_0 : cX0_size.data.toList.drop 0 = dktX0_size_0 := by decide +kernel
theorem dX0_size_0 : decode cX0_size 0 = .ok (.aload_n 2, 1) := dk_44 (dk_at dksX0_size_0 0 rfl rfl)
theorem dX0_size_1 : decode cX0_size 1 = .ok (.iconst 0, 1) := dk_3 (dk_at dksX0_size_0 1 rfl rfl)
theorem dX0_size_2 : decode cX0_size 2 = .ok (.aload_n 0, 1) := dk_42 (dk_at dksX0_size_0 2 rfl rfl)
theorem dX0_size_3 : decode cX0_size 3 = .ok (.iload_n 1, 1) := dk_27 (dk_at dksX0_size_0 3 rfl rfl)
theorem dX0_size_4 : decode cX0_size 4 = .ok (.invokevirtual 15, 3) := dk_182 0 15 (dk_at dksX0_size_0 4 rfl rfl)
theorem dX0_size_7 : decode cX0_size 7 = .ok (.i2l, 1) := dk_133 (dk_at dksX0_size_0 7 rfl rfl)
theorem dX0_size_8 : decode cX0_size 8 = .ok (.lastore, 1) := dk_80 (dk_at dksX0_size_0 8 rfl rfl)
theorem dX0_size_9 : decode cX0_size 9 = .ok (.goto 6, 3) := dk_167 0 6 (dk_at dksX0_size_0 9 rfl rfl)
theorem dX0_size_12 : decode cX0_size 12 = .ok (.astore_n 3, 1) := dk_78 (dk_at dksX0_size_0 12 rfl rfl)
theorem dX0_size_13 : decode cX0_size 13 = .ok (.iconst 1, 1) := dk_4 (dk_at dksX0_size_0 13 rfl rfl)
theorem dX0_size_14 : decode cX0_size 14 = .ok (.ireturn, 1) := dk_172 (dk_at dksX0_size_0 14 rfl rfl)
theorem dX0_size_15 : decode cX0_size 15 = .ok (.iconst 0, 1) := dk_3 (dk_at dksX0_size_0 15 rfl rfl)
theorem dX0_size_16 : decode cX0_size 16 = .ok (.ireturn, 1) := dk_172 (dk_at dksX0_size_0 16 rfl rfl)
/-- PackingDuelLaw.size(LPackingDuel;I[J)I -/
def zb1 (G : zPg) (C : zO) (args : List Value) (Q : zQ) (Y : zY) (σ : zS) : Prop := ∃ (x1 : Option Nat) (x2 : Int32) (x3 : Option Nat), args = [va_rf x1, .int x2, va_rf x3] ∧ (zrc σ x1 0 (fun a8 => zcl C 53 [.ref a8, .int x2] (fun q3 s4 => (∃ f5, s4.1 q3 = some (.inr (16, f5)) ∧ Q (some (.int (1 : Int32))) s4)) σ (zqI (fun v1 s2 => zsL s2 G.1 x3 (0 : Int32) v1.toInt64 (fun s19 => Q (some (.int (0 : Int32))) s19)))))
set_option maxHeartbeats 4000000 in
theorem wk1 {l : Launch} {g : zG} {d : Nat} {C : zO} (hG : zGk g) (hC : zSound l g d C) {args : List Value} {Q : zQ} {Y : zY} {σ : zS} (hw : zb1 (zpg g) C args Q Y σ) : zMet l g (d + 1) (⟨"PackingDuelLaw", "size", "(LPackingDuel;I[J)I"⟩, Cond.codeWith ⟨"PackingDuelLaw", "size", "(LPackingDuel;I[J)I"⟩ method_4_code 4 (Option.some FieldType.int) [(0, 9, 12, 18)]) args σ Q Y := by
  obtain ⟨x1, x2, x3, rfl, hw⟩ := hw
  refine zofW hG (by decide +kernel) [false, false, false] ⟨(zc_rf _), rfl, (zc_rf _), trivial⟩ (Nat.le_of_ble_eq_true rfl) (ls := [some (va_rf x1), some (.int x2), some (va_rf x3), none]) rfl ?_
  intro X hX hR hTt hd1 hd2 hl hg hnm
  subst hl
  subst hg
  have hd : zDep X d := ⟨hd1, hd2⟩
  refine z_aload_n hX dX0_size_0 rfl (i := 2) rfl ?_
  refine z_iconst hX (v := (0 : Int32)) dX0_size_1 (by decide) ?_
  refine z_aload_n hX dX0_size_2 rfl (i := 0) rfl ?_
  refine z_iload_n hX dX0_size_3 rfl (i := 1) rfl ?_
  obtain ⟨a8, f9, r10, m11, hw⟩ := hw
  refine z_invV hX hd r10 (ci := 0) rfl rfl m11 dX0_size_4 (hC 53 _ zm53 _ _ _ _ hw) q1635 q1636 q1637 zh1 q1638 q130 zn53 rfl (Nat.le_of_ble_eq_true rfl) (st := [.int (0 : Int32), va_rf x3]) rfl (zcs8 (Nat.le_of_ble_eq_true rfl)) rfl (zkI (fun v1 s2 hw => ?_)) (fun q3 s4 hw => by obtain ⟨f5, m6, hw⟩ := hw; refine z_catch hX [] ⟨0, 9, 12, 18⟩ [] (by rw [hTt]; rfl) (fun _ h => by cases h) (by decide) (by decide) q1634 (Or.inl rfl) (ci := 16) rfl rfl m6 ?_; show zW X s4 12 _ _; refine z_astore_n hX dX0_size_12 rfl (i := 3) (Nat.le_of_ble_eq_true rfl) (zc_rf _) (ls2 := [some (va_rf x1), some (.int x2), some (va_rf x3), some (va_rf (some q3))]) rfl ?_; refine z_iconst hX (v := (1 : Int32)) dX0_size_13 (by decide) ?_; exact z_ireturn hX hR dX0_size_14 rfl hw)
  refine z_i2l hX dX0_size_7 ?_
  obtain ⟨a12, n13, f14, r15, g16, m17, i18, hw⟩ := hw
  refine z_last hX dX0_size_8 r15 g16 m17 i18 (z_nm (fun s19 e20 => ?_))
  have hw := hw s19 e20
  refine z_goto hX dX0_size_9 (tgt := 15) rfl ?_
  refine z_iconst hX (v := (0 : Int32)) dX0_size_15 (by decide) ?_
  exact z_ireturn hX hR dX0_size_16 rfl hw
abbrev cX0_item : ByteArray := method_5_code
def yX0_item : MethodName := ⟨RX0, "item", "(LPackingDuel;II[J)I"⟩
def dkwX0_item_0 : List UInt8 := [45, 3, 42, 27, 28, 182, 0, 20, 133, 80, 167, 0, 7, 58, 4, 4, 172, 3, 172]
abbrev dktX0_item_0 : List UInt8 := dkwX0_item_0 ++ []
theorem dksX0_item_0 : cX0_item.data.toList.drop 0 = dktX0_item_0 := by decide +kernel
theorem dX0_item_0 : decode cX0_item 0 = .ok (.aload_n 3, 1) := dk_45 (dk_at dksX0_item_0 0 rfl rfl)
theorem dX0_item_1 : decode cX0_item 1 = .ok (.iconst 0, 1) := dk_3 (dk_at dksX0_item_0 1 rfl rfl)
theorem dX0_item_2 : decode cX0_item 2 = .ok (.aload_n 0, 1) := dk_42 (dk_at dksX0_item_0 2 rfl rfl)
theorem dX0_item_3 : decode cX0_item 3 = .ok (.iload_n 1, 1) := dk_27 (dk_at dksX0_item_0 3 rfl rfl)
theorem dX0_item_4 : decode cX0_item 4 = .ok (.iload_n 2, 1) := dk_28 (dk_at dksX0_item_0 4 rfl rfl)
theorem dX0_item_5 : decode cX0_item 5 = .ok (.invokevirtual 20, 3) := dk_182 0 20 (dk_at dksX0_item_0 5 rfl rfl)
theorem dX0_item_8 : decode cX0_item 8 = .ok (.i2l, 1) := dk_133 (dk_at dksX0_item_0 8 rfl rfl)
theorem dX0_item_9 : decode cX0_item 9 = .ok (.lastore, 1) := dk_80 (dk_at dksX0_item_0 9 rfl rfl)
theorem dX0_item_10 : decode cX0_item 10 = .ok (.goto 7, 3) := dk_167 0 7 (dk_at dksX0_item_0 10 rfl rfl)
theorem dX0_item_13 : decode cX0_item 13 = .ok (.astore 4, 2) := dk_58 4 (dk_at dksX0_item_0 13 rfl rfl)
theorem dX0_item_15 : decode cX0_item 15 = .ok (.iconst 1, 1) := dk_4 (dk_at dksX0_item_0 15 rfl rfl)
theorem dX0_item_16 : decode cX0_item 16 = .ok (.ireturn, 1) := dk_172 (dk_at dksX0_item_0 16 rfl rfl)
theorem dX0_item_17 : decode cX0_item 17 = .ok (.iconst 0, 1) := dk_3 (dk_at dksX0_item_0 17 rfl rfl)
theorem dX0_item_18 : decode cX0_item 18 = .ok (.ireturn, 1) := dk_172 (dk_at dksX0_item_0 18 rfl rfl)
/-- PackingDuelLaw.item(LPackingDuel;II[J)I -/
def zb2 (G : zPg) (C : zO) (args : List Value) (Q : zQ) (Y : zY) (σ : zS) : Prop := ∃ (x1 : Option Nat) (x2 : Int32) (x3 : Int32) (x4 : Option Nat), args = [va_rf x1, .int x2, .int x3, va_rf x4] ∧ (zrc σ x1 0 (fun a8 => zcl C 55 [.ref a8, .int x2, .int x3] (fun q3 s4 => (∃ f5, s4.1 q3 = some (.inr (16, f5)) ∧ Q (some (.int (1 : Int32))) s4)) σ (zqI (fun v1 s2 => zsL s2 G.1 x4 (0 : Int32) v1.toInt64 (fun s19 => Q (some (.int (0 : Int32))) s19)))))
set_option maxHeartbeats 4000000 in
theorem wk2 {l : Launch} {g : zG} {d : Nat} {C : zO} (hG : zGk g) (hC : zSound l g d C) {args : List Value} {Q : zQ} {Y : zY} {σ : zS} (hw : zb2 (zpg g) C args Q Y σ) : zMet l g (d + 1) (⟨"PackingDuelLaw", "item", "(LPackingDuel;II[J)I"⟩, Cond.codeWith ⟨"PackingDuelLaw", "item", "(LPackingDuel;II[J)I"⟩ method_5_code 5 (Option.some FieldType.int) [(0, 10, 13, 18)]) args σ Q Y := by
  obtain ⟨x1, x2, x3, x4, rfl, hw⟩ := hw
  refine zofW hG (by decide +kernel) [false, false, false, false] ⟨(zc_rf _), rfl, rfl, (zc_rf _), trivial⟩ (Nat.le_of_ble_eq_true rfl) (ls := [some (va_rf x1), some (.int x2), some (.int x3), some (va_rf x4), none]) rfl ?_
  intro X hX hR hTt hd1 hd2 hl hg hnm
  subst hl
  subst hg
  have hd : zDep X d := ⟨hd1, hd2⟩
  refine z_aload_n hX dX0_item_0 rfl (i := 3) rfl ?_
  refine z_iconst hX (v := (0 : Int32)) dX0_item_1 (by decide) ?_
  refine z_aload_n hX dX0_item_2 rfl (i := 0) rfl ?_
  refine z_iload_n hX dX0_item_3 rfl (i := 1) rfl ?_
  refine z_iload_n hX dX0_item_4 rfl (i := 2) rfl ?_
  obtain ⟨a8, f9, r10, m11, hw⟩ := hw
  refine z_invV hX hd r10 (ci := 0) rfl rfl m11 dX0_item_5 (hC 55 _ zm55 _ _ _ _ hw) q1648 q1649 q1650 zh1 q1651 q130 zn55 rfl (Nat.le_of_ble_eq_true rfl) (st := [.int (0 : Int32), va_rf x4]) rfl (zcs8 (Nat.le_of_ble_eq_true rfl)) rfl (zkI (fun v1 s2 hw => ?_)) (fun q3 s4 hw => by obtain ⟨f5, m6, hw⟩ := hw; refine z_catch hX [] ⟨0, 10, 13, 18⟩ [] (by rw [hTt]; rfl) (fun _ h => by cases h) (by decide) (by decide) q1634 (Or.inl rfl) (ci := 16) rfl rfl m6 ?_; show zW X s4 13 _ _; refine z_astore hX dX0_item_13 (i := 4) (Nat.le_of_ble_eq_true rfl) (zc_rf _) (ls2 := [some (va_rf x1), some (.int x2), some (.int x3), some (va_rf x4), some (va_rf (some q3))]) rfl ?_; refine z_iconst hX (v := (1 : Int32)) dX0_item_15 (by decide) ?_; exact z_ireturn hX hR dX0_item_16 rfl hw)
  refine z_i2l hX dX0_item_8 ?_
  obtain ⟨a12, n13, f14, r15, g16, m17, i18, hw⟩ := hw
  refine z_last hX dX0_item_9 r15 g16 m17 i18 (z_nm (fun s19 e20 => ?_))
  have hw := hw s19 e20
  refine z_goto hX dX0_item_10 (tgt := 17) rfl ?_
  refine z_iconst hX (v := (0 : Int32)) dX0_item_17 (by decide) ?_
  exact z_ireturn hX hR dX0_item_18 rfl hw
abbrev cX0_sumOf : ByteArray := method_6_code
def yX0_sumOf : MethodName := ⟨RX0, "sumOf", "(LPackingDuel;II[J)I"⟩
def dkwX0_sumOf_0 : List UInt8 := [45, 3, 42, 27, 28, 182, 0, 24, 133, 80, 167, 0, 11, 58, 4, 4, 172, 58, 4, 5, 172, 3, 172]
abbrev dktX0_sumOf_0 : List UInt8 := dkwX0_sumOf_0 ++ []
theorem dksX0_sumOf_0 : cX0_sumOf.data.toList.drop 0 = dktX0_sumOf_0 := by decide +kernel
theorem dX0_sumOf_0 : decode cX0_sumOf 0 = .ok (.aload_n 3, 1) := dk_45 (dk_at dksX0_sumOf_0 0 rfl rfl)
theorem dX0_sumOf_1 : decode cX0_sumOf 1 = .ok (.iconst 0, 1) := dk_3 (dk_at dksX0_sumOf_0 1 rfl rfl)
theorem dX0_sumOf_2 : decode cX0_sumOf 2 = .ok (.aload_n 0, 1) := dk_42 (dk_at dksX0_sumOf_0 2 rfl rfl)
theorem dX0_sumOf_3 : decode cX0_sumOf 3 = .ok (.iload_n 1, 1) := dk_27 (dk_at dksX0_sumOf_0 3 rfl rfl)
theorem dX0_sumOf_4 : decode cX0_sumOf 4 = .ok (.iload_n 2, 1) := dk_28 (dk_at dksX0_sumOf_0 4 rfl rfl)
theorem dX0_sumOf_5 : decode cX0_sumOf 5 = .ok (.invokevirtual 24, 3) := dk_182 0 24 (dk_at dksX0_sumOf_0 5 rfl rfl)
theorem dX0_sumOf_8 : decode cX0_sumOf 8 = .ok (.i2l, 1) := dk_133 (dk_at dksX0_sumOf_0 8 rfl rfl)
theorem dX0_sumOf_9 : decode cX0_sumOf 9 = .ok (.lastore, 1) := dk_80 (dk_at dksX0_sumOf_0 9 rfl rfl)
theorem dX0_sumOf_10 : decode cX0_sumOf 10 = .ok (.goto 11, 3) := dk_167 0 11 (dk_at dksX0_sumOf_0 10 rfl rfl)
theorem dX0_sumOf_13 : decode cX0_sumOf 13 = .ok (.astore 4, 2) := dk_58 4 (dk_at dksX0_sumOf_0 13 rfl rfl)
theorem dX0_sumOf_15 : decode cX0_sumOf 15 = .ok (.iconst 1, 1) := dk_4 (dk_at dksX0_sumOf_0 15 rfl rfl)
theorem dX0_sumOf_16 : decode cX0_sumOf 16 = .ok (.ireturn, 1) := dk_172 (dk_at dksX0_sumOf_0 16 rfl rfl)
theorem dX0_sumOf_17 : decode cX0_sumOf 17 = .ok (.astore 4, 2) := dk_58 4 (dk_at dksX0_sumOf_0 17 rfl rfl)
theorem dX0_sumOf_19 : decode cX0_sumOf 19 = .ok (.iconst 2, 1) := dk_5 (dk_at dksX0_sumOf_0 19 rfl rfl)
theorem dX0_sumOf_20 : decode cX0_sumOf 20 = .ok (.ireturn, 1) := dk_172 (dk_at dksX0_sumOf_0 20 rfl rfl)
theorem dX0_sumOf_21 : decode cX0_sumOf 21 = .ok (.iconst 0, 1) := dk_3 (dk_at dksX0_sumOf_0 21 rfl rfl)
theorem dX0_sumOf_22 : decode cX0_sumOf 22 = .ok (.ireturn, 1) := dk_172 (dk_at dksX0_sumOf_0 22 rfl rfl)
/-- PackingDuelLaw.sumOf(LPackingDuel;II[J)I -/
def zb3 (G : zPg) (C : zO) (args : List Value) (Q : zQ) (Y : zY) (σ : zS) : Prop := ∃ (x1 : Option Nat) (x2 : Int32) (x3 : Int32) (x4 : Option Nat), args = [va_rf x1, .int x2, .int x3, va_rf x4] ∧ (zrc σ x1 0 (fun a10 => zcl C 57 [.ref a10, .int x2, .int x3] (fun q3 s4 => (∃ f5, s4.1 q3 = some (.inr (16, f5)) ∧ Q (some (.int (1 : Int32))) s4) ∨ (∃ f7, s4.1 q3 = some (.inr (6, f7)) ∧ Q (some (.int (2 : Int32))) s4)) σ (zqI (fun v1 s2 => zsL s2 G.1 x4 (0 : Int32) v1.toInt64 (fun s21 => Q (some (.int (0 : Int32))) s21)))))
set_option maxHeartbeats 4000000 in
theorem wk3 {l : Launch} {g : zG} {d : Nat} {C : zO} (hG : zGk g) (hC : zSound l g d C) {args : List Value} {Q : zQ} {Y : zY} {σ : zS} (hw : zb3 (zpg g) C args Q Y σ) : zMet l g (d + 1) (⟨"PackingDuelLaw", "sumOf", "(LPackingDuel;II[J)I"⟩, Cond.codeWith ⟨"PackingDuelLaw", "sumOf", "(LPackingDuel;II[J)I"⟩ method_6_code 5 (Option.some FieldType.int) [(0, 10, 13, 18), (0, 10, 17, 13)]) args σ Q Y := by
  obtain ⟨x1, x2, x3, x4, rfl, hw⟩ := hw
  refine zofW hG (by decide +kernel) [false, false, false, false] ⟨(zc_rf _), rfl, rfl, (zc_rf _), trivial⟩ (Nat.le_of_ble_eq_true rfl) (ls := [some (va_rf x1), some (.int x2), some (.int x3), some (va_rf x4), none]) rfl ?_
  intro X hX hR hTt hd1 hd2 hl hg hnm
  subst hl
  subst hg
  have hd : zDep X d := ⟨hd1, hd2⟩
  refine z_aload_n hX dX0_sumOf_0 rfl (i := 3) rfl ?_
  refine z_iconst hX (v := (0 : Int32)) dX0_sumOf_1 (by decide) ?_
  refine z_aload_n hX dX0_sumOf_2 rfl (i := 0) rfl ?_
  refine z_iload_n hX dX0_sumOf_3 rfl (i := 1) rfl ?_
  refine z_iload_n hX dX0_sumOf_4 rfl (i := 2) rfl ?_
  obtain ⟨a10, f11, r12, m13, hw⟩ := hw
  refine z_invV hX hd r12 (ci := 0) rfl rfl m13 dX0_sumOf_5 (hC 57 _ zm57 _ _ _ _ hw) q1661 q1662 q1663 zh1 q1664 q130 zn57 rfl (Nat.le_of_ble_eq_true rfl) (st := [.int (0 : Int32), va_rf x4]) rfl (zcs8 (Nat.le_of_ble_eq_true rfl)) rfl (zkI (fun v1 s2 hw => ?_)) (fun q3 s4 hw => hw.elim (fun hw => by obtain ⟨f5, m6, hw⟩ := hw; refine z_catch hX [] ⟨0, 10, 13, 18⟩ [⟨0, 10, 17, 13⟩] (by rw [hTt]; rfl) (fun _ h => by cases h) (by decide) (by decide) q1634 (Or.inl rfl) (ci := 16) rfl rfl m6 ?_; show zW X s4 13 _ _; refine z_astore hX dX0_sumOf_13 (i := 4) (Nat.le_of_ble_eq_true rfl) (zc_rf _) (ls2 := [some (va_rf x1), some (.int x2), some (.int x3), some (va_rf x4), some (va_rf (some q3))]) rfl ?_; refine z_iconst hX (v := (1 : Int32)) dX0_sumOf_15 (by decide) ?_; exact z_ireturn hX hR dX0_sumOf_16 rfl hw) (fun hw => by obtain ⟨f7, m8, hw⟩ := hw; refine z_catch hX [⟨0, 10, 13, 18⟩] ⟨0, 10, 17, 13⟩ [] (by rw [hTt]; rfl) (fun z hz => by rw [List.mem_singleton.mp hz]; exact Or.inr ⟨by decide, "java/util/NoSuchElementException", hX.2.2.2.2.1 _ q1634, va_Nc.moved hX.2.2.2.2.2.1.alike hX.2.2.2.2.2.2.1.2.2.2.2.2.1⟩) (by decide) (by decide) q1056 (Or.inl rfl) (ci := 6) rfl rfl m8 ?_; show zW X s4 17 _ _; refine z_astore hX dX0_sumOf_17 (i := 4) (Nat.le_of_ble_eq_true rfl) (zc_rf _) (ls2 := [some (va_rf x1), some (.int x2), some (.int x3), some (va_rf x4), some (va_rf (some q3))]) rfl ?_; refine z_iconst hX (v := (2 : Int32)) dX0_sumOf_19 (by decide) ?_; exact z_ireturn hX hR dX0_sumOf_20 rfl hw))
  refine z_i2l hX dX0_sumOf_8 ?_
  obtain ⟨a14, n15, f16, r17, g18, m19, i20, hw⟩ := hw
  refine z_last hX dX0_sumOf_9 r17 g18 m19 i20 (z_nm (fun s21 e22 => ?_))
  have hw := hw s21 e22
  refine z_goto hX dX0_sumOf_10 (tgt := 21) rfl ?_
  refine z_iconst hX (v := (0 : Int32)) dX0_sumOf_21 (by decide) ?_
  exact z_ireturn hX hR dX0_sumOf_22 rfl hw
abbrev cX0_reply : ByteArray := method_7_code
def yX0_reply : MethodName := ⟨RX0, "reply", "(LPackingDuel;I[J)I"⟩
def dkwX0_reply_0 : List UInt8 := [44, 3, 42, 27, 182, 0, 27, 133, 80, 167, 0, 6, 78, 4, 172, 3, 172]
abbrev dktX0_reply_0 : List UInt8 := dkwX0_reply_0 ++ []
theorem dksX0_reply_0 : cX0_reply.data.toList.drop 0 = dktX0_reply_0 := by decide +kernel
theorem dX0_reply_0 : decode cX0_reply 0 = .ok (.aload_n 2, 1) := dk_44 (dk_at dksX0_reply_0 0 rfl rfl)
theorem dX0_reply_1 : decode cX0_reply 1 = .ok (.iconst 0, 1) := dk_3 (dk_at dksX0_reply_0 1 rfl rfl)
theorem dX0_reply_2 : decode cX0_reply 2 = .ok (.aload_n 0, 1) := dk_42 (dk_at dksX0_reply_0 2 rfl rfl)
theorem dX0_reply_3 : decode cX0_reply 3 = .ok (.iload_n 1, 1) := dk_27 (dk_at dksX0_reply_0 3 rfl rfl)
theorem dX0_reply_4 : decode cX0_reply 4 = .ok (.invokevirtual 27, 3) := dk_182 0 27 (dk_at dksX0_reply_0 4 rfl rfl)
theorem dX0_reply_7 : decode cX0_reply 7 = .ok (.i2l, 1) := dk_133 (dk_at dksX0_reply_0 7 rfl rfl)
theorem dX0_reply_8 : decode cX0_reply 8 = .ok (.lastore, 1) := dk_80 (dk_at dksX0_reply_0 8 rfl rfl)
theorem dX0_reply_9 : decode cX0_reply 9 = .ok (.goto 6, 3) := dk_167 0 6 (dk_at dksX0_reply_0 9 rfl rfl)
theorem dX0_reply_12 : decode cX0_reply 12 = .ok (.astore_n 3, 1) := dk_78 (dk_at dksX0_reply_0 12 rfl rfl)
theorem dX0_reply_13 : decode cX0_reply 13 = .ok (.iconst 1, 1) := dk_4 (dk_at dksX0_reply_0 13 rfl rfl)
theorem dX0_reply_14 : decode cX0_reply 14 = .ok (.ireturn, 1) := dk_172 (dk_at dksX0_reply_0 14 rfl rfl)
theorem dX0_reply_15 : decode cX0_reply 15 = .ok (.iconst 0, 1) := dk_3 (dk_at dksX0_reply_0 15 rfl rfl)
theorem dX0_reply_16 : decode cX0_reply 16 = .ok (.ireturn, 1) := dk_172 (dk_at dksX0_reply_0 16 rfl rfl)
/-- PackingDuelLaw.reply(LPackingDuel;I[J)I -/
def zb4 (G : zPg) (C : zO) (args : List Value) (Q : zQ) (Y : zY) (σ : zS) : Prop := ∃ (x1 : Option Nat) (x2 : Int32) (x3 : Option Nat), args = [va_rf x1, .int x2, va_rf x3] ∧ (zrc σ x1 0 (fun a8 => zcl C 58 [.ref a8, .int x2] (fun q3 s4 => (∃ f5, s4.1 q3 = some (.inr (6, f5)) ∧ Q (some (.int (1 : Int32))) s4)) σ (zqI (fun v1 s2 => zsL s2 G.1 x3 (0 : Int32) v1.toInt64 (fun s19 => Q (some (.int (0 : Int32))) s19)))))
set_option maxHeartbeats 4000000 in
theorem wk4 {l : Launch} {g : zG} {d : Nat} {C : zO} (hG : zGk g) (hC : zSound l g d C) {args : List Value} {Q : zQ} {Y : zY} {σ : zS} (hw : zb4 (zpg g) C args Q Y σ) : zMet l g (d + 1) (⟨"PackingDuelLaw", "reply", "(LPackingDuel;I[J)I"⟩, Cond.codeWith ⟨"PackingDuelLaw", "reply", "(LPackingDuel;I[J)I"⟩ method_7_code 4 (Option.some FieldType.int) [(0, 9, 12, 13)]) args σ Q Y := by
  obtain ⟨x1, x2, x3, rfl, hw⟩ := hw
  refine zofW hG (by decide +kernel) [false, false, false] ⟨(zc_rf _), rfl, (zc_rf _), trivial⟩ (Nat.le_of_ble_eq_true rfl) (ls := [some (va_rf x1), some (.int x2), some (va_rf x3), none]) rfl ?_
  intro X hX hR hTt hd1 hd2 hl hg hnm
  subst hl
  subst hg
  have hd : zDep X d := ⟨hd1, hd2⟩
  refine z_aload_n hX dX0_reply_0 rfl (i := 2) rfl ?_
  refine z_iconst hX (v := (0 : Int32)) dX0_reply_1 (by decide) ?_
  refine z_aload_n hX dX0_reply_2 rfl (i := 0) rfl ?_
  refine z_iload_n hX dX0_reply_3 rfl (i := 1) rfl ?_
  obtain ⟨a8, f9, r10, m11, hw⟩ := hw
  refine z_invV hX hd r10 (ci := 0) rfl rfl m11 dX0_reply_4 (hC 58 _ zm58 _ _ _ _ hw) q1673 q1674 q1675 zh1 q1676 q130 zn58 rfl (Nat.le_of_ble_eq_true rfl) (st := [.int (0 : Int32), va_rf x3]) rfl (zcs8 (Nat.le_of_ble_eq_true rfl)) rfl (zkI (fun v1 s2 hw => ?_)) (fun q3 s4 hw => by obtain ⟨f5, m6, hw⟩ := hw; refine z_catch hX [] ⟨0, 9, 12, 13⟩ [] (by rw [hTt]; rfl) (fun _ h => by cases h) (by decide) (by decide) q1056 (Or.inl rfl) (ci := 6) rfl rfl m6 ?_; show zW X s4 12 _ _; refine z_astore_n hX dX0_reply_12 rfl (i := 3) (Nat.le_of_ble_eq_true rfl) (zc_rf _) (ls2 := [some (va_rf x1), some (.int x2), some (va_rf x3), some (va_rf (some q3))]) rfl ?_; refine z_iconst hX (v := (1 : Int32)) dX0_reply_13 (by decide) ?_; exact z_ireturn hX hR dX0_reply_14 rfl hw)
  refine z_i2l hX dX0_reply_7 ?_
  obtain ⟨a12, n13, f14, r15, g16, m17, i18, hw⟩ := hw
  refine z_last hX dX0_reply_8 r15 g16 m17 i18 (z_nm (fun s19 e20 => ?_))
  have hw := hw s19 e20
  refine z_goto hX dX0_reply_9 (tgt := 15) rfl ?_
  refine z_iconst hX (v := (0 : Int32)) dX0_reply_15 (by decide) ?_
  exact z_ireturn hX hR dX0_reply_16 rfl hw
abbrev cX0_result : ByteArray := method_8_code
def yX0_result : MethodName := ⟨RX0, "result", "(LPackingDuel;I[J)I"⟩
def dkwX0_result_0 : List UInt8 := [44, 3, 42, 27, 182, 0, 30, 133, 80, 167, 0, 6, 78, 4, 172, 3, 172]
abbrev dktX0_result_0 : List UInt8 := dkwX0_result_0 ++ []
theorem dksX0_result_0 : cX0_result.data.toList.drop 0 = dktX0_result_0 := by decide +kernel
theorem dX0_result_0 : decode cX0_result 0 = .ok (.aload_n 2, 1) := dk_44 (dk_at dksX0_result_0 0 rfl rfl)
theorem dX0_result_1 : decode cX0_result 1 = .ok (.iconst 0, 1) := dk_3 (dk_at dksX0_result_0 1 rfl rfl)
theorem dX0_result_2 : decode cX0_result 2 = .ok (.aload_n 0, 1) := dk_42 (dk_at dksX0_result_0 2 rfl rfl)
theorem dX0_result_3 : decode cX0_result 3 = .ok (.iload_n 1, 1) := dk_27 (dk_at dksX0_result_0 3 rfl rfl)
theorem dX0_result_4 : decode cX0_result 4 = .ok (.invokevirtual 30, 3) := dk_182 0 30 (dk_at dksX0_result_0 4 rfl rfl)
theorem dX0_result_7 : decode cX0_result 7 = .ok (.i2l, 1) := dk_133 (dk_at dksX0_result_0 7 rfl rfl)
theorem dX0_result_8 : decode cX0_result 8 = .ok (.lastore, 1) := dk_80 (dk_at dksX0_result_0 8 rfl rfl)
theorem dX0_result_9 : decode cX0_result 9 = .ok (.goto 6, 3) := dk_167 0 6 (dk_at dksX0_result_0 9 rfl rfl)
theorem dX0_result_12 : decode cX0_result 12 = .ok (.astore_n 3, 1) := dk_78 (dk_at dksX0_result_0 12 rfl rfl)
theorem dX0_result_13 : decode cX0_result 13 = .ok (.iconst 1, 1) := dk_4 (dk_at dksX0_result_0 13 rfl rfl)
theorem dX0_result_14 : decode cX0_result 14 = .ok (.ireturn, 1) := dk_172 (dk_at dksX0_result_0 14 rfl rfl)
theorem dX0_result_15 : decode cX0_result 15 = .ok (.iconst 0, 1) := dk_3 (dk_at dksX0_result_0 15 rfl rfl)
theorem dX0_result_16 : decode cX0_result 16 = .ok (.ireturn, 1) := dk_172 (dk_at dksX0_result_0 16 rfl rfl)
/-- PackingDuelLaw.result(LPackingDuel;I[J)I -/
def zb5 (G : zPg) (C : zO) (args : List Value) (Q : zQ) (Y : zY) (σ : zS) : Prop := ∃ (x1 : Option Nat) (x2 : Int32) (x3 : Option Nat), args = [va_rf x1, .int x2, va_rf x3] ∧ (zrc σ x1 0 (fun a8 => zcl C 60 [.ref a8, .int x2] (fun q3 s4 => (∃ f5, s4.1 q3 = some (.inr (6, f5)) ∧ Q (some (.int (1 : Int32))) s4)) σ (zqI (fun v1 s2 => zsL s2 G.1 x3 (0 : Int32) v1.toInt64 (fun s19 => Q (some (.int (0 : Int32))) s19)))))
set_option maxHeartbeats 4000000 in
theorem wk5 {l : Launch} {g : zG} {d : Nat} {C : zO} (hG : zGk g) (hC : zSound l g d C) {args : List Value} {Q : zQ} {Y : zY} {σ : zS} (hw : zb5 (zpg g) C args Q Y σ) : zMet l g (d + 1) (⟨"PackingDuelLaw", "result", "(LPackingDuel;I[J)I"⟩, Cond.codeWith ⟨"PackingDuelLaw", "result", "(LPackingDuel;I[J)I"⟩ method_8_code 4 (Option.some FieldType.int) [(0, 9, 12, 13)]) args σ Q Y := by
  obtain ⟨x1, x2, x3, rfl, hw⟩ := hw
  refine zofW hG (by decide +kernel) [false, false, false] ⟨(zc_rf _), rfl, (zc_rf _), trivial⟩ (Nat.le_of_ble_eq_true rfl) (ls := [some (va_rf x1), some (.int x2), some (va_rf x3), none]) rfl ?_
  intro X hX hR hTt hd1 hd2 hl hg hnm
  subst hl
  subst hg
  have hd : zDep X d := ⟨hd1, hd2⟩
  refine z_aload_n hX dX0_result_0 rfl (i := 2) rfl ?_
  refine z_iconst hX (v := (0 : Int32)) dX0_result_1 (by decide) ?_
  refine z_aload_n hX dX0_result_2 rfl (i := 0) rfl ?_
  refine z_iload_n hX dX0_result_3 rfl (i := 1) rfl ?_
  obtain ⟨a8, f9, r10, m11, hw⟩ := hw
  refine z_invV hX hd r10 (ci := 0) rfl rfl m11 dX0_result_4 (hC 60 _ zm60 _ _ _ _ hw) q1684 q1685 q1686 zh1 q1687 q130 zn60 rfl (Nat.le_of_ble_eq_true rfl) (st := [.int (0 : Int32), va_rf x3]) rfl (zcs8 (Nat.le_of_ble_eq_true rfl)) rfl (zkI (fun v1 s2 hw => ?_)) (fun q3 s4 hw => by obtain ⟨f5, m6, hw⟩ := hw; refine z_catch hX [] ⟨0, 9, 12, 13⟩ [] (by rw [hTt]; rfl) (fun _ h => by cases h) (by decide) (by decide) q1056 (Or.inl rfl) (ci := 6) rfl rfl m6 ?_; show zW X s4 12 _ _; refine z_astore_n hX dX0_result_12 rfl (i := 3) (Nat.le_of_ble_eq_true rfl) (zc_rf _) (ls2 := [some (va_rf x1), some (.int x2), some (va_rf x3), some (va_rf (some q3))]) rfl ?_; refine z_iconst hX (v := (1 : Int32)) dX0_result_13 (by decide) ?_; exact z_ireturn hX hR dX0_result_14 rfl hw)
  refine z_i2l hX dX0_result_7 ?_
  obtain ⟨a12, n13, f14, r15, g16, m17, i18, hw⟩ := hw
  refine z_last hX dX0_result_8 r15 g16 m17 i18 (z_nm (fun s19 e20 => ?_))
  have hw := hw s19 e20
  refine z_goto hX dX0_result_9 (tgt := 15) rfl ?_
  refine z_iconst hX (v := (0 : Int32)) dX0_result_15 (by decide) ?_
  exact z_ireturn hX hR dX0_result_16 rfl hw
abbrev cX0_ranked : ByteArray := method_9_code
def yX0_ranked : MethodName := ⟨RX0, "ranked", "(LPackingDuel;I[J)I"⟩
def dkwX0_ranked_0 : List UInt8 := [44, 3, 42, 27, 182, 0, 33, 133, 80, 167, 0, 6, 78, 4, 172, 3, 172]
abbrev dktX0_ranked_0 : List UInt8 := dkwX0_ranked_0 ++ []
theorem dksX0_ranked_0 : cX0_ranked.data.toList.drop 0 = dktX0_ranked_0 := by decide +kernel
theorem dX0_ranked_0 : decode cX0_ranked 0 = .ok (.aload_n 2, 1) := dk_44 (dk_at dksX0_ranked_0 0 rfl rfl)
theorem dX0_ranked_1 : decode cX0_ranked 1 = .ok (.iconst 0, 1) := dk_3 (dk_at dksX0_ranked_0 1 rfl rfl)
theorem dX0_ranked_2 : decode cX0_ranked 2 = .ok (.aload_n 0, 1) := dk_42 (dk_at dksX0_ranked_0 2 rfl rfl)
theorem dX0_ranked_3 : decode cX0_ranked 3 = .ok (.iload_n 1, 1) := dk_27 (dk_at dksX0_ranked_0 3 rfl rfl)
theorem dX0_ranked_4 : decode cX0_ranked 4 = .ok (.invokevirtual 33, 3) := dk_182 0 33 (dk_at dksX0_ranked_0 4 rfl rfl)
theorem dX0_ranked_7 : decode cX0_ranked 7 = .ok (.i2l, 1) := dk_133 (dk_at dksX0_ranked_0 7 rfl rfl)
theorem dX0_ranked_8 : decode cX0_ranked 8 = .ok (.lastore, 1) := dk_80 (dk_at dksX0_ranked_0 8 rfl rfl)
theorem dX0_ranked_9 : decode cX0_ranked 9 = .ok (.goto 6, 3) := dk_167 0 6 (dk_at dksX0_ranked_0 9 rfl rfl)
theorem dX0_ranked_12 : decode cX0_ranked 12 = .ok (.astore_n 3, 1) := dk_78 (dk_at dksX0_ranked_0 12 rfl rfl)
theorem dX0_ranked_13 : decode cX0_ranked 13 = .ok (.iconst 1, 1) := dk_4 (dk_at dksX0_ranked_0 13 rfl rfl)
theorem dX0_ranked_14 : decode cX0_ranked 14 = .ok (.ireturn, 1) := dk_172 (dk_at dksX0_ranked_0 14 rfl rfl)
theorem dX0_ranked_15 : decode cX0_ranked 15 = .ok (.iconst 0, 1) := dk_3 (dk_at dksX0_ranked_0 15 rfl rfl)
theorem dX0_ranked_16 : decode cX0_ranked 16 = .ok (.ireturn, 1) := dk_172 (dk_at dksX0_ranked_0 16 rfl rfl)
/-- PackingDuelLaw.ranked(LPackingDuel;I[J)I -/
def zb6 (G : zPg) (C : zO) (args : List Value) (Q : zQ) (Y : zY) (σ : zS) : Prop := ∃ (x1 : Option Nat) (x2 : Int32) (x3 : Option Nat), args = [va_rf x1, .int x2, va_rf x3] ∧ (zrc σ x1 0 (fun a8 => zcl C 61 [.ref a8, .int x2] (fun q3 s4 => (∃ f5, s4.1 q3 = some (.inr (16, f5)) ∧ Q (some (.int (1 : Int32))) s4)) σ (zqI (fun v1 s2 => zsL s2 G.1 x3 (0 : Int32) v1.toInt64 (fun s19 => Q (some (.int (0 : Int32))) s19)))))
set_option maxHeartbeats 4000000 in
theorem wk6 {l : Launch} {g : zG} {d : Nat} {C : zO} (hG : zGk g) (hC : zSound l g d C) {args : List Value} {Q : zQ} {Y : zY} {σ : zS} (hw : zb6 (zpg g) C args Q Y σ) : zMet l g (d + 1) (⟨"PackingDuelLaw", "ranked", "(LPackingDuel;I[J)I"⟩, Cond.codeWith ⟨"PackingDuelLaw", "ranked", "(LPackingDuel;I[J)I"⟩ method_9_code 4 (Option.some FieldType.int) [(0, 9, 12, 18)]) args σ Q Y := by
  obtain ⟨x1, x2, x3, rfl, hw⟩ := hw
  refine zofW hG (by decide +kernel) [false, false, false] ⟨(zc_rf _), rfl, (zc_rf _), trivial⟩ (Nat.le_of_ble_eq_true rfl) (ls := [some (va_rf x1), some (.int x2), some (va_rf x3), none]) rfl ?_
  intro X hX hR hTt hd1 hd2 hl hg hnm
  subst hl
  subst hg
  have hd : zDep X d := ⟨hd1, hd2⟩
  refine z_aload_n hX dX0_ranked_0 rfl (i := 2) rfl ?_
  refine z_iconst hX (v := (0 : Int32)) dX0_ranked_1 (by decide) ?_
  refine z_aload_n hX dX0_ranked_2 rfl (i := 0) rfl ?_
  refine z_iload_n hX dX0_ranked_3 rfl (i := 1) rfl ?_
  obtain ⟨a8, f9, r10, m11, hw⟩ := hw
  refine z_invV hX hd r10 (ci := 0) rfl rfl m11 dX0_ranked_4 (hC 61 _ zm61 _ _ _ _ hw) q1691 q1692 q1693 zh1 q1694 q130 zn61 rfl (Nat.le_of_ble_eq_true rfl) (st := [.int (0 : Int32), va_rf x3]) rfl (zcs8 (Nat.le_of_ble_eq_true rfl)) rfl (zkI (fun v1 s2 hw => ?_)) (fun q3 s4 hw => by obtain ⟨f5, m6, hw⟩ := hw; refine z_catch hX [] ⟨0, 9, 12, 18⟩ [] (by rw [hTt]; rfl) (fun _ h => by cases h) (by decide) (by decide) q1634 (Or.inl rfl) (ci := 16) rfl rfl m6 ?_; show zW X s4 12 _ _; refine z_astore_n hX dX0_ranked_12 rfl (i := 3) (Nat.le_of_ble_eq_true rfl) (zc_rf _) (ls2 := [some (va_rf x1), some (.int x2), some (va_rf x3), some (va_rf (some q3))]) rfl ?_; refine z_iconst hX (v := (1 : Int32)) dX0_ranked_13 (by decide) ?_; exact z_ireturn hX hR dX0_ranked_14 rfl hw)
  refine z_i2l hX dX0_ranked_7 ?_
  obtain ⟨a12, n13, f14, r15, g16, m17, i18, hw⟩ := hw
  refine z_last hX dX0_ranked_8 r15 g16 m17 i18 (z_nm (fun s19 e20 => ?_))
  have hw := hw s19 e20
  refine z_goto hX dX0_ranked_9 (tgt := 15) rfl ?_
  refine z_iconst hX (v := (0 : Int32)) dX0_ranked_15 (by decide) ?_
  exact z_ireturn hX hR dX0_ranked_16 rfl hw
abbrev cX0_listed : ByteArray := method_10_code
def yX0_listed : MethodName := ⟨RX0, "listed", "(LPackingDuel;ZI[J)I"⟩
def dkwX0_listed_0 : List UInt8 := [45, 3, 42, 27, 28, 182, 0, 36, 133, 80, 167, 0, 7, 58, 4, 4, 172, 3, 172]
abbrev dktX0_listed_0 : List UInt8 := dkwX0_listed_0 ++ []
theorem dksX0_listed_0 : cX0_listed.data.toList.drop 0 = dktX0_listed_0 := by decide +kernel
theorem dX0_listed_0 : decode cX0_listed 0 = .ok (.aload_n 3, 1) := dk_45 (dk_at dksX0_listed_0 0 rfl rfl)
theorem dX0_listed_1 : decode cX0_listed 1 = .ok (.iconst 0, 1) := dk_3 (dk_at dksX0_listed_0 1 rfl rfl)
theorem dX0_listed_2 : decode cX0_listed 2 = .ok (.aload_n 0, 1) := dk_42 (dk_at dksX0_listed_0 2 rfl rfl)
theorem dX0_listed_3 : decode cX0_listed 3 = .ok (.iload_n 1, 1) := dk_27 (dk_at dksX0_listed_0 3 rfl rfl)
theorem dX0_listed_4 : decode cX0_listed 4 = .ok (.iload_n 2, 1) := dk_28 (dk_at dksX0_listed_0 4 rfl rfl)
theorem dX0_listed_5 : decode cX0_listed 5 = .ok (.invokevirtual 36, 3) := dk_182 0 36 (dk_at dksX0_listed_0 5 rfl rfl)
theorem dX0_listed_8 : decode cX0_listed 8 = .ok (.i2l, 1) := dk_133 (dk_at dksX0_listed_0 8 rfl rfl)
theorem dX0_listed_9 : decode cX0_listed 9 = .ok (.lastore, 1) := dk_80 (dk_at dksX0_listed_0 9 rfl rfl)
theorem dX0_listed_10 : decode cX0_listed 10 = .ok (.goto 7, 3) := dk_167 0 7 (dk_at dksX0_listed_0 10 rfl rfl)
theorem dX0_listed_13 : decode cX0_listed 13 = .ok (.astore 4, 2) := dk_58 4 (dk_at dksX0_listed_0 13 rfl rfl)
theorem dX0_listed_15 : decode cX0_listed 15 = .ok (.iconst 1, 1) := dk_4 (dk_at dksX0_listed_0 15 rfl rfl)
theorem dX0_listed_16 : decode cX0_listed 16 = .ok (.ireturn, 1) := dk_172 (dk_at dksX0_listed_0 16 rfl rfl)
theorem dX0_listed_17 : decode cX0_listed 17 = .ok (.iconst 0, 1) := dk_3 (dk_at dksX0_listed_0 17 rfl rfl)
theorem dX0_listed_18 : decode cX0_listed 18 = .ok (.ireturn, 1) := dk_172 (dk_at dksX0_listed_0 18 rfl rfl)
/-- PackingDuelLaw.listed(LPackingDuel;ZI[J)I -/
def zb7 (G : zPg) (C : zO) (args : List Value) (Q : zQ) (Y : zY) (σ : zS) : Prop := ∃ (x1 : Option Nat) (x2 : Int32) (x3 : Int32) (x4 : Option Nat), args = [va_rf x1, .int x2, .int x3, va_rf x4] ∧ (zrc σ x1 0 (fun a8 => zcl C 62 [.ref a8, .int x2, .int x3] (fun q3 s4 => (∃ f5, s4.1 q3 = some (.inr (16, f5)) ∧ Q (some (.int (1 : Int32))) s4)) σ (zqI (fun v1 s2 => zsL s2 G.1 x4 (0 : Int32) v1.toInt64 (fun s19 => Q (some (.int (0 : Int32))) s19)))))
set_option maxHeartbeats 4000000 in
theorem wk7 {l : Launch} {g : zG} {d : Nat} {C : zO} (hG : zGk g) (hC : zSound l g d C) {args : List Value} {Q : zQ} {Y : zY} {σ : zS} (hw : zb7 (zpg g) C args Q Y σ) : zMet l g (d + 1) (⟨"PackingDuelLaw", "listed", "(LPackingDuel;ZI[J)I"⟩, Cond.codeWith ⟨"PackingDuelLaw", "listed", "(LPackingDuel;ZI[J)I"⟩ method_10_code 5 (Option.some FieldType.int) [(0, 10, 13, 18)]) args σ Q Y := by
  obtain ⟨x1, x2, x3, x4, rfl, hw⟩ := hw
  refine zofW hG (by decide +kernel) [false, false, false, false] ⟨(zc_rf _), rfl, rfl, (zc_rf _), trivial⟩ (Nat.le_of_ble_eq_true rfl) (ls := [some (va_rf x1), some (.int x2), some (.int x3), some (va_rf x4), none]) rfl ?_
  intro X hX hR hTt hd1 hd2 hl hg hnm
  subst hl
  subst hg
  have hd : zDep X d := ⟨hd1, hd2⟩
  refine z_aload_n hX dX0_listed_0 rfl (i := 3) rfl ?_
  refine z_iconst hX (v := (0 : Int32)) dX0_listed_1 (by decide) ?_
  refine z_aload_n hX dX0_listed_2 rfl (i := 0) rfl ?_
  refine z_iload_n hX dX0_listed_3 rfl (i := 1) rfl ?_
  refine z_iload_n hX dX0_listed_4 rfl (i := 2) rfl ?_
  obtain ⟨a8, f9, r10, m11, hw⟩ := hw
  refine z_invV hX hd r10 (ci := 0) rfl rfl m11 dX0_listed_5 (hC 62 _ zm62 _ _ _ _ hw) q2015 q2016 q2017 zh1 q2018 q130 zn62 rfl (Nat.le_of_ble_eq_true rfl) (st := [.int (0 : Int32), va_rf x4]) rfl (zcs8 (Nat.le_of_ble_eq_true rfl)) rfl (zkI (fun v1 s2 hw => ?_)) (fun q3 s4 hw => by obtain ⟨f5, m6, hw⟩ := hw; refine z_catch hX [] ⟨0, 10, 13, 18⟩ [] (by rw [hTt]; rfl) (fun _ h => by cases h) (by decide) (by decide) q1634 (Or.inl rfl) (ci := 16) rfl rfl m6 ?_; show zW X s4 13 _ _; refine z_astore hX dX0_listed_13 (i := 4) (Nat.le_of_ble_eq_true rfl) (zc_rf _) (ls2 := [some (va_rf x1), some (.int x2), some (.int x3), some (va_rf x4), some (va_rf (some q3))]) rfl ?_; refine z_iconst hX (v := (1 : Int32)) dX0_listed_15 (by decide) ?_; exact z_ireturn hX hR dX0_listed_16 rfl hw)
  refine z_i2l hX dX0_listed_8 ?_
  obtain ⟨a12, n13, f14, r15, g16, m17, i18, hw⟩ := hw
  refine z_last hX dX0_listed_9 r15 g16 m17 i18 (z_nm (fun s19 e20 => ?_))
  have hw := hw s19 e20
  refine z_goto hX dX0_listed_10 (tgt := 17) rfl ?_
  refine z_iconst hX (v := (0 : Int32)) dX0_listed_17 (by decide) ?_
  exact z_ireturn hX hR dX0_listed_18 rfl hw
abbrev cX0_payoff : ByteArray := method_11_code
def yX0_payoff : MethodName := ⟨RX0, "payoff", "(LPackingDuel;II[J)I"⟩
def dkwX0_payoff_0 : List UInt8 := [45, 3, 42, 27, 28, 182, 0, 40, 133, 80, 167, 0, 7, 58, 4, 4, 172, 3, 172]
abbrev dktX0_payoff_0 : List UInt8 := dkwX0_payoff_0 ++ []
theorem dksX0_payoff_0 : cX0_payoff.data.toList.drop 0 = dktX0_payoff_0 := by decide +kernel
theorem dX0_payoff_0 : decode cX0_payoff 0 = .ok (.aload_n 3, 1) := dk_45 (dk_at dksX0_payoff_0 0 rfl rfl)
theorem dX0_payoff_1 : decode cX0_payoff 1 = .ok (.iconst 0, 1) := dk_3 (dk_at dksX0_payoff_0 1 rfl rfl)
theorem dX0_payoff_2 : decode cX0_payoff 2 = .ok (.aload_n 0, 1) := dk_42 (dk_at dksX0_payoff_0 2 rfl rfl)
theorem dX0_payoff_3 : decode cX0_payoff 3 = .ok (.iload_n 1, 1) := dk_27 (dk_at dksX0_payoff_0 3 rfl rfl)
theorem dX0_payoff_4 : decode cX0_payoff 4 = .ok (.iload_n 2, 1) := dk_28 (dk_at dksX0_payoff_0 4 rfl rfl)
theorem dX0_payoff_5 : decode cX0_payoff 5 = .ok (.invokevirtual 40, 3) := dk_182 0 40 (dk_at dksX0_payoff_0 5 rfl rfl)
theorem dX0_payoff_8 : decode cX0_payoff 8 = .ok (.i2l, 1) := dk_133 (dk_at dksX0_payoff_0 8 rfl rfl)
theorem dX0_payoff_9 : decode cX0_payoff 9 = .ok (.lastore, 1) := dk_80 (dk_at dksX0_payoff_0 9 rfl rfl)
theorem dX0_payoff_10 : decode cX0_payoff 10 = .ok (.goto 7, 3) := dk_167 0 7 (dk_at dksX0_payoff_0 10 rfl rfl)
theorem dX0_payoff_13 : decode cX0_payoff 13 = .ok (.astore 4, 2) := dk_58 4 (dk_at dksX0_payoff_0 13 rfl rfl)
theorem dX0_payoff_15 : decode cX0_payoff 15 = .ok (.iconst 1, 1) := dk_4 (dk_at dksX0_payoff_0 15 rfl rfl)
theorem dX0_payoff_16 : decode cX0_payoff 16 = .ok (.ireturn, 1) := dk_172 (dk_at dksX0_payoff_0 16 rfl rfl)
theorem dX0_payoff_17 : decode cX0_payoff 17 = .ok (.iconst 0, 1) := dk_3 (dk_at dksX0_payoff_0 17 rfl rfl)
theorem dX0_payoff_18 : decode cX0_payoff 18 = .ok (.ireturn, 1) := dk_172 (dk_at dksX0_payoff_0 18 rfl rfl)
/-- PackingDuelLaw.payoff(LPackingDuel;II[J)I -/
def zb8 (G : zPg) (C : zO) (args : List Value) (Q : zQ) (Y : zY) (σ : zS) : Prop := ∃ (x1 : Option Nat) (x2 : Int32) (x3 : Int32) (x4 : Option Nat), args = [va_rf x1, .int x2, .int x3, va_rf x4] ∧ (zrc σ x1 0 (fun a8 => zcl C 64 [.ref a8, .int x2, .int x3] (fun q3 s4 => (∃ f5, s4.1 q3 = some (.inr (16, f5)) ∧ Q (some (.int (1 : Int32))) s4)) σ (zqI (fun v1 s2 => zsL s2 G.1 x4 (0 : Int32) v1.toInt64 (fun s19 => Q (some (.int (0 : Int32))) s19)))))
set_option maxHeartbeats 4000000 in
theorem wk8 {l : Launch} {g : zG} {d : Nat} {C : zO} (hG : zGk g) (hC : zSound l g d C) {args : List Value} {Q : zQ} {Y : zY} {σ : zS} (hw : zb8 (zpg g) C args Q Y σ) : zMet l g (d + 1) (⟨"PackingDuelLaw", "payoff", "(LPackingDuel;II[J)I"⟩, Cond.codeWith ⟨"PackingDuelLaw", "payoff", "(LPackingDuel;II[J)I"⟩ method_11_code 5 (Option.some FieldType.int) [(0, 10, 13, 18)]) args σ Q Y := by
  obtain ⟨x1, x2, x3, x4, rfl, hw⟩ := hw
  refine zofW hG (by decide +kernel) [false, false, false, false] ⟨(zc_rf _), rfl, rfl, (zc_rf _), trivial⟩ (Nat.le_of_ble_eq_true rfl) (ls := [some (va_rf x1), some (.int x2), some (.int x3), some (va_rf x4), none]) rfl ?_
  intro X hX hR hTt hd1 hd2 hl hg hnm
  subst hl
  subst hg
  have hd : zDep X d := ⟨hd1, hd2⟩
  refine z_aload_n hX dX0_payoff_0 rfl (i := 3) rfl ?_
  refine z_iconst hX (v := (0 : Int32)) dX0_payoff_1 (by decide) ?_
  refine z_aload_n hX dX0_payoff_2 rfl (i := 0) rfl ?_
  refine z_iload_n hX dX0_payoff_3 rfl (i := 1) rfl ?_
  refine z_iload_n hX dX0_payoff_4 rfl (i := 2) rfl ?_
  obtain ⟨a8, f9, r10, m11, hw⟩ := hw
  refine z_invV hX hd r10 (ci := 0) rfl rfl m11 dX0_payoff_5 (hC 64 _ zm64 _ _ _ _ hw) q2030 q2031 q2032 zh1 q2033 q130 zn64 rfl (Nat.le_of_ble_eq_true rfl) (st := [.int (0 : Int32), va_rf x4]) rfl (zcs8 (Nat.le_of_ble_eq_true rfl)) rfl (zkI (fun v1 s2 hw => ?_)) (fun q3 s4 hw => by obtain ⟨f5, m6, hw⟩ := hw; refine z_catch hX [] ⟨0, 10, 13, 18⟩ [] (by rw [hTt]; rfl) (fun _ h => by cases h) (by decide) (by decide) q1634 (Or.inl rfl) (ci := 16) rfl rfl m6 ?_; show zW X s4 13 _ _; refine z_astore hX dX0_payoff_13 (i := 4) (Nat.le_of_ble_eq_true rfl) (zc_rf _) (ls2 := [some (va_rf x1), some (.int x2), some (.int x3), some (va_rf x4), some (va_rf (some q3))]) rfl ?_; refine z_iconst hX (v := (1 : Int32)) dX0_payoff_15 (by decide) ?_; exact z_ireturn hX hR dX0_payoff_16 rfl hw)
  refine z_i2l hX dX0_payoff_8 ?_
  obtain ⟨a12, n13, f14, r15, g16, m17, i18, hw⟩ := hw
  refine z_last hX dX0_payoff_9 r15 g16 m17 i18 (z_nm (fun s19 e20 => ?_))
  have hw := hw s19 e20
  refine z_goto hX dX0_payoff_10 (tgt := 17) rfl ?_
  refine z_iconst hX (v := (0 : Int32)) dX0_payoff_17 (by decide) ?_
  exact z_ireturn hX hR dX0_payoff_18 rfl hw
abbrev cX0_weight : ByteArray := method_12_code
def yX0_weight : MethodName := ⟨RX0, "weight", "(LPackingDuel;ZIZ[J)I"⟩
def dkwX0_weight_0 : List UInt8 := [25, 4, 3, 42, 27, 28, 29, 182, 0, 43, 80, 167, 0, 7, 58, 5, 4, 172, 3, 172]
abbrev dktX0_weight_0 : List UInt8 := dkwX0_weight_0 ++ []
theorem dksX0_weight_0 : cX0_weight.data.toList.drop 0 = dktX0_weight_0 := by decide +kernel
theorem dX0_weight_0 : decode cX0_weight 0 = .ok (.aload 4, 2) := dk_25 4 (dk_at dksX0_weight_0 0 rfl rfl)
theorem dX0_weight_2 : decode cX0_weight 2 = .ok (.iconst 0, 1) := dk_3 (dk_at dksX0_weight_0 2 rfl rfl)
theorem dX0_weight_3 : decode cX0_weight 3 = .ok (.aload_n 0, 1) := dk_42 (dk_at dksX0_weight_0 3 rfl rfl)
theorem dX0_weight_4 : decode cX0_weight 4 = .ok (.iload_n 1, 1) := dk_27 (dk_at dksX0_weight_0 4 rfl rfl)
theorem dX0_weight_5 : decode cX0_weight 5 = .ok (.iload_n 2, 1) := dk_28 (dk_at dksX0_weight_0 5 rfl rfl)
theorem dX0_weight_6 : decode cX0_weight 6 = .ok (.iload_n 3, 1) := dk_29 (dk_at dksX0_weight_0 6 rfl rfl)
theorem dX0_weight_7 : decode cX0_weight 7 = .ok (.invokevirtual 43, 3) := dk_182 0 43 (dk_at dksX0_weight_0 7 rfl rfl)
theorem dX0_weight_10 : decode cX0_weight 10 = .ok (.lastore, 1) := dk_80 (dk_at dksX0_weight_0 10 rfl rfl)
theorem dX0_weight_11 : decode cX0_weight 11 = .ok (.goto 7, 3) := dk_167 0 7 (dk_at dksX0_weight_0 11 rfl rfl)
theorem dX0_weight_14 : decode cX0_weight 14 = .ok (.astore 5, 2) := dk_58 5 (dk_at dksX0_weight_0 14 rfl rfl)
theorem dX0_weight_16 : decode cX0_weight 16 = .ok (.iconst 1, 1) := dk_4 (dk_at dksX0_weight_0 16 rfl rfl)
theorem dX0_weight_17 : decode cX0_weight 17 = .ok (.ireturn, 1) := dk_172 (dk_at dksX0_weight_0 17 rfl rfl)
theorem dX0_weight_18 : decode cX0_weight 18 = .ok (.iconst 0, 1) := dk_3 (dk_at dksX0_weight_0 18 rfl rfl)
theorem dX0_weight_19 : decode cX0_weight 19 = .ok (.ireturn, 1) := dk_172 (dk_at dksX0_weight_0 19 rfl rfl)
/-- PackingDuelLaw.weight(LPackingDuel;ZIZ[J)I -/
def zb9 (G : zPg) (C : zO) (args : List Value) (Q : zQ) (Y : zY) (σ : zS) : Prop := ∃ (x1 : Option Nat) (x2 : Int32) (x3 : Int32) (x4 : Int32) (x5 : Option Nat), args = [va_rf x1, .int x2, .int x3, .int x4, va_rf x5] ∧ (zrc σ x1 0 (fun a8 => zcl C 65 [.ref a8, .int x2, .int x3, .int x4] (fun q3 s4 => (∃ f5, s4.1 q3 = some (.inr (16, f5)) ∧ Q (some (.int (1 : Int32))) s4)) σ (zqL (fun v1 s2 => zsL s2 G.1 x5 (0 : Int32) v1 (fun s19 => Q (some (.int (0 : Int32))) s19)))))
set_option maxHeartbeats 4000000 in
theorem wk9 {l : Launch} {g : zG} {d : Nat} {C : zO} (hG : zGk g) (hC : zSound l g d C) {args : List Value} {Q : zQ} {Y : zY} {σ : zS} (hw : zb9 (zpg g) C args Q Y σ) : zMet l g (d + 1) (⟨"PackingDuelLaw", "weight", "(LPackingDuel;ZIZ[J)I"⟩, Cond.codeWith ⟨"PackingDuelLaw", "weight", "(LPackingDuel;ZIZ[J)I"⟩ method_12_code 6 (Option.some FieldType.int) [(0, 11, 14, 18)]) args σ Q Y := by
  obtain ⟨x1, x2, x3, x4, x5, rfl, hw⟩ := hw
  refine zofW hG (by decide +kernel) [false, false, false, false, false] ⟨(zc_rf _), rfl, rfl, rfl, (zc_rf _), trivial⟩ (Nat.le_of_ble_eq_true rfl) (ls := [some (va_rf x1), some (.int x2), some (.int x3), some (.int x4), some (va_rf x5), none]) rfl ?_
  intro X hX hR hTt hd1 hd2 hl hg hnm
  subst hl
  subst hg
  have hd : zDep X d := ⟨hd1, hd2⟩
  refine z_aload hX dX0_weight_0 (i := 4) rfl ?_
  refine z_iconst hX (v := (0 : Int32)) dX0_weight_2 (by decide) ?_
  refine z_aload_n hX dX0_weight_3 rfl (i := 0) rfl ?_
  refine z_iload_n hX dX0_weight_4 rfl (i := 1) rfl ?_
  refine z_iload_n hX dX0_weight_5 rfl (i := 2) rfl ?_
  refine z_iload_n hX dX0_weight_6 rfl (i := 3) rfl ?_
  obtain ⟨a8, f9, r10, m11, hw⟩ := hw
  refine z_invV hX hd r10 (ci := 0) rfl rfl m11 dX0_weight_7 (hC 65 _ zm65 _ _ _ _ hw) q2038 q2039 q2040 zh1 q2041 q130 zn65 rfl (Nat.le_of_ble_eq_true rfl) (st := [.int (0 : Int32), va_rf x5]) rfl (zcs8 (Nat.le_of_ble_eq_true rfl)) rfl (zkL (fun v1 s2 hw => ?_)) (fun q3 s4 hw => by obtain ⟨f5, m6, hw⟩ := hw; refine z_catch hX [] ⟨0, 11, 14, 18⟩ [] (by rw [hTt]; rfl) (fun _ h => by cases h) (by decide) (by decide) q1634 (Or.inl rfl) (ci := 16) rfl rfl m6 ?_; show zW X s4 14 _ _; refine z_astore hX dX0_weight_14 (i := 5) (Nat.le_of_ble_eq_true rfl) (zc_rf _) (ls2 := [some (va_rf x1), some (.int x2), some (.int x3), some (.int x4), some (va_rf x5), some (va_rf (some q3))]) rfl ?_; refine z_iconst hX (v := (1 : Int32)) dX0_weight_16 (by decide) ?_; exact z_ireturn hX hR dX0_weight_17 rfl hw)
  obtain ⟨a12, n13, f14, r15, g16, m17, i18, hw⟩ := hw
  refine z_last hX dX0_weight_10 r15 g16 m17 i18 (z_nm (fun s19 e20 => ?_))
  have hw := hw s19 e20
  refine z_goto hX dX0_weight_11 (tgt := 18) rfl ?_
  refine z_iconst hX (v := (0 : Int32)) dX0_weight_18 (by decide) ?_
  exact z_ireturn hX hR dX0_weight_19 rfl hw
abbrev cX0_game : ByteArray := method_13_code
def yX0_game : MethodName := ⟨RX0, "game", "(LPackingDuel;I[J)I"⟩
def dkwX0_game_0 : List UInt8 := [44, 3, 42, 27, 182, 0, 47, 133, 80, 167, 0, 6, 78, 4, 172, 3, 172]
abbrev dktX0_game_0 : List UInt8 := dkwX0_game_0 ++ []
theorem dksX0_game_0 : cX0_game.data.toList.drop 0 = dktX0_game_0 := by decide +kernel
theorem dX0_game_0 : decode cX0_game 0 = .ok (.aload_n 2, 1) := dk_44 (dk_at dksX0_game_0 0 rfl rfl)
theorem dX0_game_1 : decode cX0_game 1 = .ok (.iconst 0, 1) := dk_3 (dk_at dksX0_game_0 1 rfl rfl)
theorem dX0_game_2 : decode cX0_game 2 = .ok (.aload_n 0, 1) := dk_42 (dk_at dksX0_game_0 2 rfl rfl)
theorem dX0_game_3 : decode cX0_game 3 = .ok (.iload_n 1, 1) := dk_27 (dk_at dksX0_game_0 3 rfl rfl)
theorem dX0_game_4 : decode cX0_game 4 = .ok (.invokevirtual 47, 3) := dk_182 0 47 (dk_at dksX0_game_0 4 rfl rfl)
theorem dX0_game_7 : decode cX0_game 7 = .ok (.i2l, 1) := dk_133 (dk_at dksX0_game_0 7 rfl rfl)
theorem dX0_game_8 : decode cX0_game 8 = .ok (.lastore, 1) := dk_80 (dk_at dksX0_game_0 8 rfl rfl)
theorem dX0_game_9 : decode cX0_game 9 = .ok (.goto 6, 3) := dk_167 0 6 (dk_at dksX0_game_0 9 rfl rfl)
theorem dX0_game_12 : decode cX0_game 12 = .ok (.astore_n 3, 1) := dk_78 (dk_at dksX0_game_0 12 rfl rfl)
theorem dX0_game_13 : decode cX0_game 13 = .ok (.iconst 1, 1) := dk_4 (dk_at dksX0_game_0 13 rfl rfl)
theorem dX0_game_14 : decode cX0_game 14 = .ok (.ireturn, 1) := dk_172 (dk_at dksX0_game_0 14 rfl rfl)
theorem dX0_game_15 : decode cX0_game 15 = .ok (.iconst 0, 1) := dk_3 (dk_at dksX0_game_0 15 rfl rfl)
theorem dX0_game_16 : decode cX0_game 16 = .ok (.ireturn, 1) := dk_172 (dk_at dksX0_game_0 16 rfl rfl)
/-- PackingDuelLaw.game(LPackingDuel;I[J)I -/
def zb10 (G : zPg) (C : zO) (args : List Value) (Q : zQ) (Y : zY) (σ : zS) : Prop := ∃ (x1 : Option Nat) (x2 : Int32) (x3 : Option Nat), args = [va_rf x1, .int x2, va_rf x3] ∧ (zrc σ x1 0 (fun a8 => zcl C 66 [.ref a8, .int x2] (fun q3 s4 => (∃ f5, s4.1 q3 = some (.inr (16, f5)) ∧ Q (some (.int (1 : Int32))) s4)) σ (zqI (fun v1 s2 => zsL s2 G.1 x3 (0 : Int32) v1.toInt64 (fun s19 => Q (some (.int (0 : Int32))) s19)))))
set_option maxHeartbeats 4000000 in
theorem wk10 {l : Launch} {g : zG} {d : Nat} {C : zO} (hG : zGk g) (hC : zSound l g d C) {args : List Value} {Q : zQ} {Y : zY} {σ : zS} (hw : zb10 (zpg g) C args Q Y σ) : zMet l g (d + 1) (⟨"PackingDuelLaw", "game", "(LPackingDuel;I[J)I"⟩, Cond.codeWith ⟨"PackingDuelLaw", "game", "(LPackingDuel;I[J)I"⟩ method_13_code 4 (Option.some FieldType.int) [(0, 9, 12, 18)]) args σ Q Y := by
  obtain ⟨x1, x2, x3, rfl, hw⟩ := hw
  refine zofW hG (by decide +kernel) [false, false, false] ⟨(zc_rf _), rfl, (zc_rf _), trivial⟩ (Nat.le_of_ble_eq_true rfl) (ls := [some (va_rf x1), some (.int x2), some (va_rf x3), none]) rfl ?_
  intro X hX hR hTt hd1 hd2 hl hg hnm
  subst hl
  subst hg
  have hd : zDep X d := ⟨hd1, hd2⟩
  refine z_aload_n hX dX0_game_0 rfl (i := 2) rfl ?_
  refine z_iconst hX (v := (0 : Int32)) dX0_game_1 (by decide) ?_
  refine z_aload_n hX dX0_game_2 rfl (i := 0) rfl ?_
  refine z_iload_n hX dX0_game_3 rfl (i := 1) rfl ?_
  obtain ⟨a8, f9, r10, m11, hw⟩ := hw
  refine z_invV hX hd r10 (ci := 0) rfl rfl m11 dX0_game_4 (hC 66 _ zm66 _ _ _ _ hw) q2045 q2046 q2047 zh1 q2048 q130 zn66 rfl (Nat.le_of_ble_eq_true rfl) (st := [.int (0 : Int32), va_rf x3]) rfl (zcs8 (Nat.le_of_ble_eq_true rfl)) rfl (zkI (fun v1 s2 hw => ?_)) (fun q3 s4 hw => by obtain ⟨f5, m6, hw⟩ := hw; refine z_catch hX [] ⟨0, 9, 12, 18⟩ [] (by rw [hTt]; rfl) (fun _ h => by cases h) (by decide) (by decide) q1634 (Or.inl rfl) (ci := 16) rfl rfl m6 ?_; show zW X s4 12 _ _; refine z_astore_n hX dX0_game_12 rfl (i := 3) (Nat.le_of_ble_eq_true rfl) (zc_rf _) (ls2 := [some (va_rf x1), some (.int x2), some (va_rf x3), some (va_rf (some q3))]) rfl ?_; refine z_iconst hX (v := (1 : Int32)) dX0_game_13 (by decide) ?_; exact z_ireturn hX hR dX0_game_14 rfl hw)
  refine z_i2l hX dX0_game_7 ?_
  obtain ⟨a12, n13, f14, r15, g16, m17, i18, hw⟩ := hw
  refine z_last hX dX0_game_8 r15 g16 m17 i18 (z_nm (fun s19 e20 => ?_))
  have hw := hw s19 e20
  refine z_goto hX dX0_game_9 (tgt := 15) rfl ?_
  refine z_iconst hX (v := (0 : Int32)) dX0_game_15 (by decide) ?_
  exact z_ireturn hX hR dX0_game_16 rfl hw
abbrev cX0_reason : ByteArray := method_14_code
def yX0_reason : MethodName := ⟨RX0, "reason", "(LPackingDuel;I[J)I"⟩
def dkwX0_reason_0 : List UInt8 := [44, 3, 42, 27, 182, 0, 50, 133, 80, 167, 0, 6, 78, 4, 172, 3, 172]
abbrev dktX0_reason_0 : List UInt8 := dkwX0_reason_0 ++ []
theorem dksX0_reason_0 : cX0_reason.data.toList.drop 0 = dktX0_reason_0 := by decide +kernel
theorem dX0_reason_0 : decode cX0_reason 0 = .ok (.aload_n 2, 1) := dk_44 (dk_at dksX0_reason_0 0 rfl rfl)
theorem dX0_reason_1 : decode cX0_reason 1 = .ok (.iconst 0, 1) := dk_3 (dk_at dksX0_reason_0 1 rfl rfl)
theorem dX0_reason_2 : decode cX0_reason 2 = .ok (.aload_n 0, 1) := dk_42 (dk_at dksX0_reason_0 2 rfl rfl)
theorem dX0_reason_3 : decode cX0_reason 3 = .ok (.iload_n 1, 1) := dk_27 (dk_at dksX0_reason_0 3 rfl rfl)
theorem dX0_reason_4 : decode cX0_reason 4 = .ok (.invokevirtual 50, 3) := dk_182 0 50 (dk_at dksX0_reason_0 4 rfl rfl)
theorem dX0_reason_7 : decode cX0_reason 7 = .ok (.i2l, 1) := dk_133 (dk_at dksX0_reason_0 7 rfl rfl)
theorem dX0_reason_8 : decode cX0_reason 8 = .ok (.lastore, 1) := dk_80 (dk_at dksX0_reason_0 8 rfl rfl)
theorem dX0_reason_9 : decode cX0_reason 9 = .ok (.goto 6, 3) := dk_167 0 6 (dk_at dksX0_reason_0 9 rfl rfl)
theorem dX0_reason_12 : decode cX0_reason 12 = .ok (.astore_n 3, 1) := dk_78 (dk_at dksX0_reason_0 12 rfl rfl)
theorem dX0_reason_13 : decode cX0_reason 13 = .ok (.iconst 1, 1) := dk_4 (dk_at dksX0_reason_0 13 rfl rfl)
theorem dX0_reason_14 : decode cX0_reason 14 = .ok (.ireturn, 1) := dk_172 (dk_at dksX0_reason_0 14 rfl rfl)
theorem dX0_reason_15 : decode cX0_reason 15 = .ok (.iconst 0, 1) := dk_3 (dk_at dksX0_reason_0 15 rfl rfl)
theorem dX0_reason_16 : decode cX0_reason 16 = .ok (.ireturn, 1) := dk_172 (dk_at dksX0_reason_0 16 rfl rfl)
/-- PackingDuelLaw.reason(LPackingDuel;I[J)I -/
def zb11 (G : zPg) (C : zO) (args : List Value) (Q : zQ) (Y : zY) (σ : zS) : Prop := ∃ (x1 : Option Nat) (x2 : Int32) (x3 : Option Nat), args = [va_rf x1, .int x2, va_rf x3] ∧ (zrc σ x1 0 (fun a8 => zcl C 67 [.ref a8, .int x2] (fun q3 s4 => (∃ f5, s4.1 q3 = some (.inr (16, f5)) ∧ Q (some (.int (1 : Int32))) s4)) σ (zqI (fun v1 s2 => zsL s2 G.1 x3 (0 : Int32) v1.toInt64 (fun s19 => Q (some (.int (0 : Int32))) s19)))))
set_option maxHeartbeats 4000000 in
theorem wk11 {l : Launch} {g : zG} {d : Nat} {C : zO} (hG : zGk g) (hC : zSound l g d C) {args : List Value} {Q : zQ} {Y : zY} {σ : zS} (hw : zb11 (zpg g) C args Q Y σ) : zMet l g (d + 1) (⟨"PackingDuelLaw", "reason", "(LPackingDuel;I[J)I"⟩, Cond.codeWith ⟨"PackingDuelLaw", "reason", "(LPackingDuel;I[J)I"⟩ method_14_code 4 (Option.some FieldType.int) [(0, 9, 12, 18)]) args σ Q Y := by
  obtain ⟨x1, x2, x3, rfl, hw⟩ := hw
  refine zofW hG (by decide +kernel) [false, false, false] ⟨(zc_rf _), rfl, (zc_rf _), trivial⟩ (Nat.le_of_ble_eq_true rfl) (ls := [some (va_rf x1), some (.int x2), some (va_rf x3), none]) rfl ?_
  intro X hX hR hTt hd1 hd2 hl hg hnm
  subst hl
  subst hg
  have hd : zDep X d := ⟨hd1, hd2⟩
  refine z_aload_n hX dX0_reason_0 rfl (i := 2) rfl ?_
  refine z_iconst hX (v := (0 : Int32)) dX0_reason_1 (by decide) ?_
  refine z_aload_n hX dX0_reason_2 rfl (i := 0) rfl ?_
  refine z_iload_n hX dX0_reason_3 rfl (i := 1) rfl ?_
  obtain ⟨a8, f9, r10, m11, hw⟩ := hw
  refine z_invV hX hd r10 (ci := 0) rfl rfl m11 dX0_reason_4 (hC 67 _ zm67 _ _ _ _ hw) q2056 q2057 q2058 zh1 q2059 q130 zn67 rfl (Nat.le_of_ble_eq_true rfl) (st := [.int (0 : Int32), va_rf x3]) rfl (zcs8 (Nat.le_of_ble_eq_true rfl)) rfl (zkI (fun v1 s2 hw => ?_)) (fun q3 s4 hw => by obtain ⟨f5, m6, hw⟩ := hw; refine z_catch hX [] ⟨0, 9, 12, 18⟩ [] (by rw [hTt]; rfl) (fun _ h => by cases h) (by decide) (by decide) q1634 (Or.inl rfl) (ci := 16) rfl rfl m6 ?_; show zW X s4 12 _ _; refine z_astore_n hX dX0_reason_12 rfl (i := 3) (Nat.le_of_ble_eq_true rfl) (zc_rf _) (ls2 := [some (va_rf x1), some (.int x2), some (va_rf x3), some (va_rf (some q3))]) rfl ?_; refine z_iconst hX (v := (1 : Int32)) dX0_reason_13 (by decide) ?_; exact z_ireturn hX hR dX0_reason_14 rfl hw)
  refine z_i2l hX dX0_reason_7 ?_
  obtain ⟨a12, n13, f14, r15, g16, m17, i18, hw⟩ := hw
  refine z_last hX dX0_reason_8 r15 g16 m17 i18 (z_nm (fun s19 e20 => ?_))
  have hw := hw s19 e20
  refine z_goto hX dX0_reason_9 (tgt := 15) rfl ?_
  refine z_iconst hX (v := (0 : Int32)) dX0_reason_15 (by decide) ?_
  exact z_ireturn hX hR dX0_reason_16 rfl hw
abbrev cX0_setItem : ByteArray := method_15_code
def yX0_setItem : MethodName := ⟨RX0, "setItem", "(LPackingDuel;III[J)I"⟩
def dkwX0_setItem_1 : List UInt8 := [172]
abbrev dktX0_setItem_1 : List UInt8 := dkwX0_setItem_1 ++ []
def dkwX0_setItem_0 : List UInt8 := [25, 4, 3, 42, 27, 28, 29, 182, 0, 53, 133, 80, 167, 0, 11, 58, 5, 4, 172, 58, 5, 5, 172, 3]
abbrev dktX0_setItem_0 : List UInt8 := dkwX0_setItem_0 ++ dktX0_setItem_1
theorem dksX0_setItem_0 : cX0_setItem.data.toList.drop 0 = dktX0_setItem_0 := by decide +kernel
theorem dksX0_setItem_1 : cX0_setItem.data.toList.drop 24 = dktX0_setItem_1 := dk_seg dksX0_setItem_0 24 rfl rfl
theorem dX0_setItem_0 : decode cX0_setItem 0 = .ok (.aload 4, 2) := dk_25 4 (dk_at dksX0_setItem_0 0 rfl rfl)
theorem dX0_setItem_2 : decode cX0_setItem 2 = .ok (.iconst 0, 1) := dk_3 (dk_at dksX0_setItem_0 2 rfl rfl)
theorem dX0_setItem_3 : decode cX0_setItem 3 = .ok (.aload_n 0, 1) := dk_42 (dk_at dksX0_setItem_0 3 rfl rfl)
theorem dX0_setItem_4 : decode cX0_setItem 4 = .ok (.iload_n 1, 1) := dk_27 (dk_at dksX0_setItem_0 4 rfl rfl)
theorem dX0_setItem_5 : decode cX0_setItem 5 = .ok (.iload_n 2, 1) := dk_28 (dk_at dksX0_setItem_0 5 rfl rfl)
theorem dX0_setItem_6 : decode cX0_setItem 6 = .ok (.iload_n 3, 1) := dk_29 (dk_at dksX0_setItem_0 6 rfl rfl)
theorem dX0_setItem_7 : decode cX0_setItem 7 = .ok (.invokevirtual 53, 3) := dk_182 0 53 (dk_at dksX0_setItem_0 7 rfl rfl)
theorem dX0_setItem_10 : decode cX0_setItem 10 = .ok (.i2l, 1) := dk_133 (dk_at dksX0_setItem_0 10 rfl rfl)
theorem dX0_setItem_11 : decode cX0_setItem 11 = .ok (.lastore, 1) := dk_80 (dk_at dksX0_setItem_0 11 rfl rfl)
theorem dX0_setItem_12 : decode cX0_setItem 12 = .ok (.goto 11, 3) := dk_167 0 11 (dk_at dksX0_setItem_0 12 rfl rfl)
theorem dX0_setItem_15 : decode cX0_setItem 15 = .ok (.astore 5, 2) := dk_58 5 (dk_at dksX0_setItem_0 15 rfl rfl)
theorem dX0_setItem_17 : decode cX0_setItem 17 = .ok (.iconst 1, 1) := dk_4 (dk_at dksX0_setItem_0 17 rfl rfl)
theorem dX0_setItem_18 : decode cX0_setItem 18 = .ok (.ireturn, 1) := dk_172 (dk_at dksX0_setItem_0 18 rfl rfl)
theorem dX0_setItem_19 : decode cX0_setItem 19 = .ok (.astore 5, 2) := dk_58 5 (dk_at dksX0_setItem_0 19 rfl rfl)
theorem dX0_setItem_21 : decode cX0_setItem 21 = .ok (.iconst 2, 1) := dk_5 (dk_at dksX0_setItem_0 21 rfl rfl)
theorem dX0_setItem_22 : decode cX0_setItem 22 = .ok (.ireturn, 1) := dk_172 (dk_at dksX0_setItem_0 22 rfl rfl)
theorem dX0_setItem_23 : decode cX0_setItem 23 = .ok (.iconst 0, 1) := dk_3 (dk_at dksX0_setItem_0 23 rfl rfl)
theorem dX0_setItem_24 : decode cX0_setItem 24 = .ok (.ireturn, 1) := dk_172 (dk_at dksX0_setItem_1 0 rfl rfl)
/-- PackingDuelLaw.setItem(LPackingDuel;III[J)I -/
def zb12 (G : zPg) (C : zO) (args : List Value) (Q : zQ) (Y : zY) (σ : zS) : Prop := ∃ (x1 : Option Nat) (x2 : Int32) (x3 : Int32) (x4 : Int32) (x5 : Option Nat), args = [va_rf x1, .int x2, .int x3, .int x4, va_rf x5] ∧ (zrc σ x1 0 (fun a10 => zcl C 68 [.ref a10, .int x2, .int x3, .int x4] (fun q3 s4 => (∃ f5, s4.1 q3 = some (.inr (16, f5)) ∧ Q (some (.int (1 : Int32))) s4) ∨ (∃ f7, s4.1 q3 = some (.inr (6, f7)) ∧ Q (some (.int (2 : Int32))) s4)) σ (zqI (fun v1 s2 => zsL s2 G.1 x5 (0 : Int32) v1.toInt64 (fun s21 => Q (some (.int (0 : Int32))) s21)))))
set_option maxHeartbeats 4000000 in
theorem wk12 {l : Launch} {g : zG} {d : Nat} {C : zO} (hG : zGk g) (hC : zSound l g d C) {args : List Value} {Q : zQ} {Y : zY} {σ : zS} (hw : zb12 (zpg g) C args Q Y σ) : zMet l g (d + 1) (⟨"PackingDuelLaw", "setItem", "(LPackingDuel;III[J)I"⟩, Cond.codeWith ⟨"PackingDuelLaw", "setItem", "(LPackingDuel;III[J)I"⟩ method_15_code 6 (Option.some FieldType.int) [(0, 12, 15, 18), (0, 12, 19, 13)]) args σ Q Y := by
  obtain ⟨x1, x2, x3, x4, x5, rfl, hw⟩ := hw
  refine zofW hG (by decide +kernel) [false, false, false, false, false] ⟨(zc_rf _), rfl, rfl, rfl, (zc_rf _), trivial⟩ (Nat.le_of_ble_eq_true rfl) (ls := [some (va_rf x1), some (.int x2), some (.int x3), some (.int x4), some (va_rf x5), none]) rfl ?_
  intro X hX hR hTt hd1 hd2 hl hg hnm
  subst hl
  subst hg
  have hd : zDep X d := ⟨hd1, hd2⟩
  refine z_aload hX dX0_setItem_0 (i := 4) rfl ?_
  refine z_iconst hX (v := (0 : Int32)) dX0_setItem_2 (by decide) ?_
  refine z_aload_n hX dX0_setItem_3 rfl (i := 0) rfl ?_
  refine z_iload_n hX dX0_setItem_4 rfl (i := 1) rfl ?_
  refine z_iload_n hX dX0_setItem_5 rfl (i := 2) rfl ?_
  refine z_iload_n hX dX0_setItem_6 rfl (i := 3) rfl ?_
  obtain ⟨a10, f11, r12, m13, hw⟩ := hw
  refine z_invV hX hd r12 (ci := 0) rfl rfl m13 dX0_setItem_7 (hC 68 _ zm68 _ _ _ _ hw) q2068 q2069 q2070 zh1 q2071 q130 zn68 rfl (Nat.le_of_ble_eq_true rfl) (st := [.int (0 : Int32), va_rf x5]) rfl (zcs8 (Nat.le_of_ble_eq_true rfl)) rfl (zkI (fun v1 s2 hw => ?_)) (fun q3 s4 hw => hw.elim (fun hw => by obtain ⟨f5, m6, hw⟩ := hw; refine z_catch hX [] ⟨0, 12, 15, 18⟩ [⟨0, 12, 19, 13⟩] (by rw [hTt]; rfl) (fun _ h => by cases h) (by decide) (by decide) q1634 (Or.inl rfl) (ci := 16) rfl rfl m6 ?_; show zW X s4 15 _ _; refine z_astore hX dX0_setItem_15 (i := 5) (Nat.le_of_ble_eq_true rfl) (zc_rf _) (ls2 := [some (va_rf x1), some (.int x2), some (.int x3), some (.int x4), some (va_rf x5), some (va_rf (some q3))]) rfl ?_; refine z_iconst hX (v := (1 : Int32)) dX0_setItem_17 (by decide) ?_; exact z_ireturn hX hR dX0_setItem_18 rfl hw) (fun hw => by obtain ⟨f7, m8, hw⟩ := hw; refine z_catch hX [⟨0, 12, 15, 18⟩] ⟨0, 12, 19, 13⟩ [] (by rw [hTt]; rfl) (fun z hz => by rw [List.mem_singleton.mp hz]; exact Or.inr ⟨by decide, "java/util/NoSuchElementException", hX.2.2.2.2.1 _ q1634, va_Nc.moved hX.2.2.2.2.2.1.alike hX.2.2.2.2.2.2.1.2.2.2.2.2.1⟩) (by decide) (by decide) q1056 (Or.inl rfl) (ci := 6) rfl rfl m8 ?_; show zW X s4 19 _ _; refine z_astore hX dX0_setItem_19 (i := 5) (Nat.le_of_ble_eq_true rfl) (zc_rf _) (ls2 := [some (va_rf x1), some (.int x2), some (.int x3), some (.int x4), some (va_rf x5), some (va_rf (some q3))]) rfl ?_; refine z_iconst hX (v := (2 : Int32)) dX0_setItem_21 (by decide) ?_; exact z_ireturn hX hR dX0_setItem_22 rfl hw))
  refine z_i2l hX dX0_setItem_10 ?_
  obtain ⟨a14, n15, f16, r17, g18, m19, i20, hw⟩ := hw
  refine z_last hX dX0_setItem_11 r17 g18 m19 i20 (z_nm (fun s21 e22 => ?_))
  have hw := hw s21 e22
  refine z_goto hX dX0_setItem_12 (tgt := 23) rfl ?_
  refine z_iconst hX (v := (0 : Int32)) dX0_setItem_23 (by decide) ?_
  exact z_ireturn hX hR dX0_setItem_24 rfl hw
abbrev cX0_setCapacity : ByteArray := method_16_code
def yX0_setCapacity : MethodName := ⟨RX0, "setCapacity", "(LPackingDuel;I[J)I"⟩
def dkwX0_setCapacity_0 : List UInt8 := [44, 3, 42, 27, 182, 0, 57, 133, 80, 167, 0, 6, 78, 4, 172, 3, 172]
abbrev dktX0_setCapacity_0 : List UInt8 := dkwX0_setCapacity_0 ++ []
theorem dksX0_setCapacity_0 : cX0_setCapacity.data.toList.drop 0 = dktX0_setCapacity_0 := by decide +kernel
theorem dX0_setCapacity_0 : decode cX0_setCapacity 0 = .ok (.aload_n 2, 1) := dk_44 (dk_at dksX0_setCapacity_0 0 rfl rfl)
theorem dX0_setCapacity_1 : decode cX0_setCapacity 1 = .ok (.iconst 0, 1) := dk_3 (dk_at dksX0_setCapacity_0 1 rfl rfl)
theorem dX0_setCapacity_2 : decode cX0_setCapacity 2 = .ok (.aload_n 0, 1) := dk_42 (dk_at dksX0_setCapacity_0 2 rfl rfl)
theorem dX0_setCapacity_3 : decode cX0_setCapacity 3 = .ok (.iload_n 1, 1) := dk_27 (dk_at dksX0_setCapacity_0 3 rfl rfl)
theorem dX0_setCapacity_4 : decode cX0_setCapacity 4 = .ok (.invokevirtual 57, 3) := dk_182 0 57 (dk_at dksX0_setCapacity_0 4 rfl rfl)
theorem dX0_setCapacity_7 : decode cX0_setCapacity 7 = .ok (.i2l, 1) := dk_133 (dk_at dksX0_setCapacity_0 7 rfl rfl)
theorem dX0_setCapacity_8 : decode cX0_setCapacity 8 = .ok (.lastore, 1) := dk_80 (dk_at dksX0_setCapacity_0 8 rfl rfl)
theorem dX0_setCapacity_9 : decode cX0_setCapacity 9 = .ok (.goto 6, 3) := dk_167 0 6 (dk_at dksX0_setCapacity_0 9 rfl rfl)
theorem dX0_setCapacity_12 : decode cX0_setCapacity 12 = .ok (.astore_n 3, 1) := dk_78 (dk_at dksX0_setCapacity_0 12 rfl rfl)
theorem dX0_setCapacity_13 : decode cX0_setCapacity 13 = .ok (.iconst 1, 1) := dk_4 (dk_at dksX0_setCapacity_0 13 rfl rfl)
theorem dX0_setCapacity_14 : decode cX0_setCapacity 14 = .ok (.ireturn, 1) := dk_172 (dk_at dksX0_setCapacity_0 14 rfl rfl)
theorem dX0_setCapacity_15 : decode cX0_setCapacity 15 = .ok (.iconst 0, 1) := dk_3 (dk_at dksX0_setCapacity_0 15 rfl rfl)
theorem dX0_setCapacity_16 : decode cX0_setCapacity 16 = .ok (.ireturn, 1) := dk_172 (dk_at dksX0_setCapacity_0 16 rfl rfl)
/-- PackingDuelLaw.setCapacity(LPackingDuel;I[J)I -/
def zb13 (G : zPg) (C : zO) (args : List Value) (Q : zQ) (Y : zY) (σ : zS) : Prop := ∃ (x1 : Option Nat) (x2 : Int32) (x3 : Option Nat), args = [va_rf x1, .int x2, va_rf x3] ∧ (zrc σ x1 0 (fun a8 => zcl C 70 [.ref a8, .int x2] (fun q3 s4 => (∃ f5, s4.1 q3 = some (.inr (6, f5)) ∧ Q (some (.int (1 : Int32))) s4)) σ (zqI (fun v1 s2 => zsL s2 G.1 x3 (0 : Int32) v1.toInt64 (fun s19 => Q (some (.int (0 : Int32))) s19)))))
set_option maxHeartbeats 4000000 in
theorem wk13 {l : Launch} {g : zG} {d : Nat} {C : zO} (hG : zGk g) (hC : zSound l g d C) {args : List Value} {Q : zQ} {Y : zY} {σ : zS} (hw : zb13 (zpg g) C args Q Y σ) : zMet l g (d + 1) (⟨"PackingDuelLaw", "setCapacity", "(LPackingDuel;I[J)I"⟩, Cond.codeWith ⟨"PackingDuelLaw", "setCapacity", "(LPackingDuel;I[J)I"⟩ method_16_code 4 (Option.some FieldType.int) [(0, 9, 12, 13)]) args σ Q Y := by
  obtain ⟨x1, x2, x3, rfl, hw⟩ := hw
  refine zofW hG (by decide +kernel) [false, false, false] ⟨(zc_rf _), rfl, (zc_rf _), trivial⟩ (Nat.le_of_ble_eq_true rfl) (ls := [some (va_rf x1), some (.int x2), some (va_rf x3), none]) rfl ?_
  intro X hX hR hTt hd1 hd2 hl hg hnm
  subst hl
  subst hg
  have hd : zDep X d := ⟨hd1, hd2⟩
  refine z_aload_n hX dX0_setCapacity_0 rfl (i := 2) rfl ?_
  refine z_iconst hX (v := (0 : Int32)) dX0_setCapacity_1 (by decide) ?_
  refine z_aload_n hX dX0_setCapacity_2 rfl (i := 0) rfl ?_
  refine z_iload_n hX dX0_setCapacity_3 rfl (i := 1) rfl ?_
  obtain ⟨a8, f9, r10, m11, hw⟩ := hw
  refine z_invV hX hd r10 (ci := 0) rfl rfl m11 dX0_setCapacity_4 (hC 70 _ zm70 _ _ _ _ hw) q2115 q2116 q2117 zh1 q2118 q130 zn70 rfl (Nat.le_of_ble_eq_true rfl) (st := [.int (0 : Int32), va_rf x3]) rfl (zcs8 (Nat.le_of_ble_eq_true rfl)) rfl (zkI (fun v1 s2 hw => ?_)) (fun q3 s4 hw => by obtain ⟨f5, m6, hw⟩ := hw; refine z_catch hX [] ⟨0, 9, 12, 13⟩ [] (by rw [hTt]; rfl) (fun _ h => by cases h) (by decide) (by decide) q1056 (Or.inl rfl) (ci := 6) rfl rfl m6 ?_; show zW X s4 12 _ _; refine z_astore_n hX dX0_setCapacity_12 rfl (i := 3) (Nat.le_of_ble_eq_true rfl) (zc_rf _) (ls2 := [some (va_rf x1), some (.int x2), some (va_rf x3), some (va_rf (some q3))]) rfl ?_; refine z_iconst hX (v := (1 : Int32)) dX0_setCapacity_13 (by decide) ?_; exact z_ireturn hX hR dX0_setCapacity_14 rfl hw)
  refine z_i2l hX dX0_setCapacity_7 ?_
  obtain ⟨a12, n13, f14, r15, g16, m17, i18, hw⟩ := hw
  refine z_last hX dX0_setCapacity_8 r15 g16 m17 i18 (z_nm (fun s19 e20 => ?_))
  have hw := hw s19 e20
  refine z_goto hX dX0_setCapacity_9 (tgt := 15) rfl ?_
  refine z_iconst hX (v := (0 : Int32)) dX0_setCapacity_15 (by decide) ?_
  exact z_ireturn hX hR dX0_setCapacity_16 rfl hw
abbrev cX0_setThreshold : ByteArray := method_17_code
def yX0_setThreshold : MethodName := ⟨RX0, "setThreshold", "(LPackingDuel;I[J)I"⟩
def dkwX0_setThreshold_0 : List UInt8 := [44, 3, 42, 27, 182, 0, 60, 133, 80, 167, 0, 6, 78, 4, 172, 3, 172]
abbrev dktX0_setThreshold_0 : List UInt8 := dkwX0_setThreshold_0 ++ []
theorem dksX0_setThreshold_0 : cX0_setThreshold.data.toList.drop 0 = dktX0_setThreshold_0 := by decide +kernel
theorem dX0_setThreshold_0 : decode cX0_setThreshold 0 = .ok (.aload_n 2, 1) := dk_44 (dk_at dksX0_setThreshold_0 0 rfl rfl)
theorem dX0_setThreshold_1 : decode cX0_setThreshold 1 = .ok (.iconst 0, 1) := dk_3 (dk_at dksX0_setThreshold_0 1 rfl rfl)
theorem dX0_setThreshold_2 : decode cX0_setThreshold 2 = .ok (.aload_n 0, 1) := dk_42 (dk_at dksX0_setThreshold_0 2 rfl rfl)
theorem dX0_setThreshold_3 : decode cX0_setThreshold 3 = .ok (.iload_n 1, 1) := dk_27 (dk_at dksX0_setThreshold_0 3 rfl rfl)
theorem dX0_setThreshold_4 : decode cX0_setThreshold 4 = .ok (.invokevirtual 60, 3) := dk_182 0 60 (dk_at dksX0_setThreshold_0 4 rfl rfl)
theorem dX0_setThreshold_7 : decode cX0_setThreshold 7 = .ok (.i2l, 1) := dk_133 (dk_at dksX0_setThreshold_0 7 rfl rfl)
theorem dX0_setThreshold_8 : decode cX0_setThreshold 8 = .ok (.lastore, 1) := dk_80 (dk_at dksX0_setThreshold_0 8 rfl rfl)
theorem dX0_setThreshold_9 : decode cX0_setThreshold 9 = .ok (.goto 6, 3) := dk_167 0 6 (dk_at dksX0_setThreshold_0 9 rfl rfl)
theorem dX0_setThreshold_12 : decode cX0_setThreshold 12 = .ok (.astore_n 3, 1) := dk_78 (dk_at dksX0_setThreshold_0 12 rfl rfl)
theorem dX0_setThreshold_13 : decode cX0_setThreshold 13 = .ok (.iconst 1, 1) := dk_4 (dk_at dksX0_setThreshold_0 13 rfl rfl)
theorem dX0_setThreshold_14 : decode cX0_setThreshold 14 = .ok (.ireturn, 1) := dk_172 (dk_at dksX0_setThreshold_0 14 rfl rfl)
theorem dX0_setThreshold_15 : decode cX0_setThreshold 15 = .ok (.iconst 0, 1) := dk_3 (dk_at dksX0_setThreshold_0 15 rfl rfl)
theorem dX0_setThreshold_16 : decode cX0_setThreshold 16 = .ok (.ireturn, 1) := dk_172 (dk_at dksX0_setThreshold_0 16 rfl rfl)
/-- PackingDuelLaw.setThreshold(LPackingDuel;I[J)I -/
def zb14 (G : zPg) (C : zO) (args : List Value) (Q : zQ) (Y : zY) (σ : zS) : Prop := ∃ (x1 : Option Nat) (x2 : Int32) (x3 : Option Nat), args = [va_rf x1, .int x2, va_rf x3] ∧ (zrc σ x1 0 (fun a8 => zcl C 71 [.ref a8, .int x2] (fun q3 s4 => (∃ f5, s4.1 q3 = some (.inr (6, f5)) ∧ Q (some (.int (1 : Int32))) s4)) σ (zqI (fun v1 s2 => zsL s2 G.1 x3 (0 : Int32) v1.toInt64 (fun s19 => Q (some (.int (0 : Int32))) s19)))))
set_option maxHeartbeats 4000000 in
theorem wk14 {l : Launch} {g : zG} {d : Nat} {C : zO} (hG : zGk g) (hC : zSound l g d C) {args : List Value} {Q : zQ} {Y : zY} {σ : zS} (hw : zb14 (zpg g) C args Q Y σ) : zMet l g (d + 1) (⟨"PackingDuelLaw", "setThreshold", "(LPackingDuel;I[J)I"⟩, Cond.codeWith ⟨"PackingDuelLaw", "setThreshold", "(LPackingDuel;I[J)I"⟩ method_17_code 4 (Option.some FieldType.int) [(0, 9, 12, 13)]) args σ Q Y := by
  obtain ⟨x1, x2, x3, rfl, hw⟩ := hw
  refine zofW hG (by decide +kernel) [false, false, false] ⟨(zc_rf _), rfl, (zc_rf _), trivial⟩ (Nat.le_of_ble_eq_true rfl) (ls := [some (va_rf x1), some (.int x2), some (va_rf x3), none]) rfl ?_
  intro X hX hR hTt hd1 hd2 hl hg hnm
  subst hl
  subst hg
  have hd : zDep X d := ⟨hd1, hd2⟩
  refine z_aload_n hX dX0_setThreshold_0 rfl (i := 2) rfl ?_
  refine z_iconst hX (v := (0 : Int32)) dX0_setThreshold_1 (by decide) ?_
  refine z_aload_n hX dX0_setThreshold_2 rfl (i := 0) rfl ?_
  refine z_iload_n hX dX0_setThreshold_3 rfl (i := 1) rfl ?_
  obtain ⟨a8, f9, r10, m11, hw⟩ := hw
  refine z_invV hX hd r10 (ci := 0) rfl rfl m11 dX0_setThreshold_4 (hC 71 _ zm71 _ _ _ _ hw) q2123 q2124 q2125 zh1 q2126 q130 zn71 rfl (Nat.le_of_ble_eq_true rfl) (st := [.int (0 : Int32), va_rf x3]) rfl (zcs8 (Nat.le_of_ble_eq_true rfl)) rfl (zkI (fun v1 s2 hw => ?_)) (fun q3 s4 hw => by obtain ⟨f5, m6, hw⟩ := hw; refine z_catch hX [] ⟨0, 9, 12, 13⟩ [] (by rw [hTt]; rfl) (fun _ h => by cases h) (by decide) (by decide) q1056 (Or.inl rfl) (ci := 6) rfl rfl m6 ?_; show zW X s4 12 _ _; refine z_astore_n hX dX0_setThreshold_12 rfl (i := 3) (Nat.le_of_ble_eq_true rfl) (zc_rf _) (ls2 := [some (va_rf x1), some (.int x2), some (va_rf x3), some (va_rf (some q3))]) rfl ?_; refine z_iconst hX (v := (1 : Int32)) dX0_setThreshold_13 (by decide) ?_; exact z_ireturn hX hR dX0_setThreshold_14 rfl hw)
  refine z_i2l hX dX0_setThreshold_7 ?_
  obtain ⟨a12, n13, f14, r15, g16, m17, i18, hw⟩ := hw
  refine z_last hX dX0_setThreshold_8 r15 g16 m17 i18 (z_nm (fun s19 e20 => ?_))
  have hw := hw s19 e20
  refine z_goto hX dX0_setThreshold_9 (tgt := 15) rfl ?_
  refine z_iconst hX (v := (0 : Int32)) dX0_setThreshold_15 (by decide) ?_
  exact z_ireturn hX hR dX0_setThreshold_16 rfl hw
abbrev cX0_addPlan : ByteArray := method_18_code
def yX0_addPlan : MethodName := ⟨RX0, "addPlan", "(LPackingDuel;I[J)I"⟩
def dkwX0_addPlan_0 : List UInt8 := [44, 3, 42, 27, 182, 0, 63, 133, 80, 167, 0, 6, 78, 4, 172, 3, 172]
abbrev dktX0_addPlan_0 : List UInt8 := dkwX0_addPlan_0 ++ []
theorem dksX0_addPlan_0 : cX0_addPlan.data.toList.drop 0 = dktX0_addPlan_0 := by decide +kernel
theorem dX0_addPlan_0 : decode cX0_addPlan 0 = .ok (.aload_n 2, 1) := dk_44 (dk_at dksX0_addPlan_0 0 rfl rfl)
theorem dX0_addPlan_1 : decode cX0_addPlan 1 = .ok (.iconst 0, 1) := dk_3 (dk_at dksX0_addPlan_0 1 rfl rfl)
theorem dX0_addPlan_2 : decode cX0_addPlan 2 = .ok (.aload_n 0, 1) := dk_42 (dk_at dksX0_addPlan_0 2 rfl rfl)
theorem dX0_addPlan_3 : decode cX0_addPlan 3 = .ok (.iload_n 1, 1) := dk_27 (dk_at dksX0_addPlan_0 3 rfl rfl)
theorem dX0_addPlan_4 : decode cX0_addPlan 4 = .ok (.invokevirtual 63, 3) := dk_182 0 63 (dk_at dksX0_addPlan_0 4 rfl rfl)
theorem dX0_addPlan_7 : decode cX0_addPlan 7 = .ok (.i2l, 1) := dk_133 (dk_at dksX0_addPlan_0 7 rfl rfl)
theorem dX0_addPlan_8 : decode cX0_addPlan 8 = .ok (.lastore, 1) := dk_80 (dk_at dksX0_addPlan_0 8 rfl rfl)
theorem dX0_addPlan_9 : decode cX0_addPlan 9 = .ok (.goto 6, 3) := dk_167 0 6 (dk_at dksX0_addPlan_0 9 rfl rfl)
theorem dX0_addPlan_12 : decode cX0_addPlan 12 = .ok (.astore_n 3, 1) := dk_78 (dk_at dksX0_addPlan_0 12 rfl rfl)
theorem dX0_addPlan_13 : decode cX0_addPlan 13 = .ok (.iconst 1, 1) := dk_4 (dk_at dksX0_addPlan_0 13 rfl rfl)
theorem dX0_addPlan_14 : decode cX0_addPlan 14 = .ok (.ireturn, 1) := dk_172 (dk_at dksX0_addPlan_0 14 rfl rfl)
theorem dX0_addPlan_15 : decode cX0_addPlan 15 = .ok (.iconst 0, 1) := dk_3 (dk_at dksX0_addPlan_0 15 rfl rfl)
theorem dX0_addPlan_16 : decode cX0_addPlan 16 = .ok (.ireturn, 1) := dk_172 (dk_at dksX0_addPlan_0 16 rfl rfl)
/-- PackingDuelLaw.addPlan(LPackingDuel;I[J)I -/
def zb15 (G : zPg) (C : zO) (args : List Value) (Q : zQ) (Y : zY) (σ : zS) : Prop := ∃ (x1 : Option Nat) (x2 : Int32) (x3 : Option Nat), args = [va_rf x1, .int x2, va_rf x3] ∧ (zrc σ x1 0 (fun a8 => zcl C 72 [.ref a8, .int x2] (fun q3 s4 => (∃ f5, s4.1 q3 = some (.inr (6, f5)) ∧ Q (some (.int (1 : Int32))) s4)) σ (zqI (fun v1 s2 => zsL s2 G.1 x3 (0 : Int32) v1.toInt64 (fun s19 => Q (some (.int (0 : Int32))) s19)))))
set_option maxHeartbeats 4000000 in
theorem wk15 {l : Launch} {g : zG} {d : Nat} {C : zO} (hG : zGk g) (hC : zSound l g d C) {args : List Value} {Q : zQ} {Y : zY} {σ : zS} (hw : zb15 (zpg g) C args Q Y σ) : zMet l g (d + 1) (⟨"PackingDuelLaw", "addPlan", "(LPackingDuel;I[J)I"⟩, Cond.codeWith ⟨"PackingDuelLaw", "addPlan", "(LPackingDuel;I[J)I"⟩ method_18_code 4 (Option.some FieldType.int) [(0, 9, 12, 13)]) args σ Q Y := by
  obtain ⟨x1, x2, x3, rfl, hw⟩ := hw
  refine zofW hG (by decide +kernel) [false, false, false] ⟨(zc_rf _), rfl, (zc_rf _), trivial⟩ (Nat.le_of_ble_eq_true rfl) (ls := [some (va_rf x1), some (.int x2), some (va_rf x3), none]) rfl ?_
  intro X hX hR hTt hd1 hd2 hl hg hnm
  subst hl
  subst hg
  have hd : zDep X d := ⟨hd1, hd2⟩
  refine z_aload_n hX dX0_addPlan_0 rfl (i := 2) rfl ?_
  refine z_iconst hX (v := (0 : Int32)) dX0_addPlan_1 (by decide) ?_
  refine z_aload_n hX dX0_addPlan_2 rfl (i := 0) rfl ?_
  refine z_iload_n hX dX0_addPlan_3 rfl (i := 1) rfl ?_
  obtain ⟨a8, f9, r10, m11, hw⟩ := hw
  refine z_invV hX hd r10 (ci := 0) rfl rfl m11 dX0_addPlan_4 (hC 72 _ zm72 _ _ _ _ hw) q2130 q2131 q2132 zh1 q2133 q130 zn72 rfl (Nat.le_of_ble_eq_true rfl) (st := [.int (0 : Int32), va_rf x3]) rfl (zcs8 (Nat.le_of_ble_eq_true rfl)) rfl (zkI (fun v1 s2 hw => ?_)) (fun q3 s4 hw => by obtain ⟨f5, m6, hw⟩ := hw; refine z_catch hX [] ⟨0, 9, 12, 13⟩ [] (by rw [hTt]; rfl) (fun _ h => by cases h) (by decide) (by decide) q1056 (Or.inl rfl) (ci := 6) rfl rfl m6 ?_; show zW X s4 12 _ _; refine z_astore_n hX dX0_addPlan_12 rfl (i := 3) (Nat.le_of_ble_eq_true rfl) (zc_rf _) (ls2 := [some (va_rf x1), some (.int x2), some (va_rf x3), some (va_rf (some q3))]) rfl ?_; refine z_iconst hX (v := (1 : Int32)) dX0_addPlan_13 (by decide) ?_; exact z_ireturn hX hR dX0_addPlan_14 rfl hw)
  refine z_i2l hX dX0_addPlan_7 ?_
  obtain ⟨a12, n13, f14, r15, g16, m17, i18, hw⟩ := hw
  refine z_last hX dX0_addPlan_8 r15 g16 m17 i18 (z_nm (fun s19 e20 => ?_))
  have hw := hw s19 e20
  refine z_goto hX dX0_addPlan_9 (tgt := 15) rfl ?_
  refine z_iconst hX (v := (0 : Int32)) dX0_addPlan_15 (by decide) ?_
  exact z_ireturn hX hR dX0_addPlan_16 rfl hw
abbrev cX0_addAnswer : ByteArray := method_19_code
def yX0_addAnswer : MethodName := ⟨RX0, "addAnswer", "(LPackingDuel;I[J)I"⟩
def dkwX0_addAnswer_0 : List UInt8 := [44, 3, 42, 27, 182, 0, 66, 133, 80, 167, 0, 6, 78, 4, 172, 3, 172]
abbrev dktX0_addAnswer_0 : List UInt8 := dkwX0_addAnswer_0 ++ []
theorem dksX0_addAnswer_0 : cX0_addAnswer.data.toList.drop 0 = dktX0_addAnswer_0 := by decide +kernel
theorem dX0_addAnswer_0 : decode cX0_addAnswer 0 = .ok (.aload_n 2, 1) := dk_44 (dk_at dksX0_addAnswer_0 0 rfl rfl)
theorem dX0_addAnswer_1 : decode cX0_addAnswer 1 = .ok (.iconst 0, 1) := dk_3 (dk_at dksX0_addAnswer_0 1 rfl rfl)
theorem dX0_addAnswer_2 : decode cX0_addAnswer 2 = .ok (.aload_n 0, 1) := dk_42 (dk_at dksX0_addAnswer_0 2 rfl rfl)
theorem dX0_addAnswer_3 : decode cX0_addAnswer 3 = .ok (.iload_n 1, 1) := dk_27 (dk_at dksX0_addAnswer_0 3 rfl rfl)
theorem dX0_addAnswer_4 : decode cX0_addAnswer 4 = .ok (.invokevirtual 66, 3) := dk_182 0 66 (dk_at dksX0_addAnswer_0 4 rfl rfl)
theorem dX0_addAnswer_7 : decode cX0_addAnswer 7 = .ok (.i2l, 1) := dk_133 (dk_at dksX0_addAnswer_0 7 rfl rfl)
theorem dX0_addAnswer_8 : decode cX0_addAnswer 8 = .ok (.lastore, 1) := dk_80 (dk_at dksX0_addAnswer_0 8 rfl rfl)
theorem dX0_addAnswer_9 : decode cX0_addAnswer 9 = .ok (.goto 6, 3) := dk_167 0 6 (dk_at dksX0_addAnswer_0 9 rfl rfl)
theorem dX0_addAnswer_12 : decode cX0_addAnswer 12 = .ok (.astore_n 3, 1) := dk_78 (dk_at dksX0_addAnswer_0 12 rfl rfl)
theorem dX0_addAnswer_13 : decode cX0_addAnswer 13 = .ok (.iconst 1, 1) := dk_4 (dk_at dksX0_addAnswer_0 13 rfl rfl)
theorem dX0_addAnswer_14 : decode cX0_addAnswer 14 = .ok (.ireturn, 1) := dk_172 (dk_at dksX0_addAnswer_0 14 rfl rfl)
theorem dX0_addAnswer_15 : decode cX0_addAnswer 15 = .ok (.iconst 0, 1) := dk_3 (dk_at dksX0_addAnswer_0 15 rfl rfl)
theorem dX0_addAnswer_16 : decode cX0_addAnswer 16 = .ok (.ireturn, 1) := dk_172 (dk_at dksX0_addAnswer_0 16 rfl rfl)
/-- PackingDuelLaw.addAnswer(LPackingDuel;I[J)I -/
def zb16 (G : zPg) (C : zO) (args : List Value) (Q : zQ) (Y : zY) (σ : zS) : Prop := ∃ (x1 : Option Nat) (x2 : Int32) (x3 : Option Nat), args = [va_rf x1, .int x2, va_rf x3] ∧ (zrc σ x1 0 (fun a8 => zcl C 74 [.ref a8, .int x2] (fun q3 s4 => (∃ f5, s4.1 q3 = some (.inr (6, f5)) ∧ Q (some (.int (1 : Int32))) s4)) σ (zqI (fun v1 s2 => zsL s2 G.1 x3 (0 : Int32) v1.toInt64 (fun s19 => Q (some (.int (0 : Int32))) s19)))))
set_option maxHeartbeats 4000000 in
theorem wk16 {l : Launch} {g : zG} {d : Nat} {C : zO} (hG : zGk g) (hC : zSound l g d C) {args : List Value} {Q : zQ} {Y : zY} {σ : zS} (hw : zb16 (zpg g) C args Q Y σ) : zMet l g (d + 1) (⟨"PackingDuelLaw", "addAnswer", "(LPackingDuel;I[J)I"⟩, Cond.codeWith ⟨"PackingDuelLaw", "addAnswer", "(LPackingDuel;I[J)I"⟩ method_19_code 4 (Option.some FieldType.int) [(0, 9, 12, 13)]) args σ Q Y := by
  obtain ⟨x1, x2, x3, rfl, hw⟩ := hw
  refine zofW hG (by decide +kernel) [false, false, false] ⟨(zc_rf _), rfl, (zc_rf _), trivial⟩ (Nat.le_of_ble_eq_true rfl) (ls := [some (va_rf x1), some (.int x2), some (va_rf x3), none]) rfl ?_
  intro X hX hR hTt hd1 hd2 hl hg hnm
  subst hl
  subst hg
  have hd : zDep X d := ⟨hd1, hd2⟩
  refine z_aload_n hX dX0_addAnswer_0 rfl (i := 2) rfl ?_
  refine z_iconst hX (v := (0 : Int32)) dX0_addAnswer_1 (by decide) ?_
  refine z_aload_n hX dX0_addAnswer_2 rfl (i := 0) rfl ?_
  refine z_iload_n hX dX0_addAnswer_3 rfl (i := 1) rfl ?_
  obtain ⟨a8, f9, r10, m11, hw⟩ := hw
  refine z_invV hX hd r10 (ci := 0) rfl rfl m11 dX0_addAnswer_4 (hC 74 _ zm74 _ _ _ _ hw) q2143 q2144 q2145 zh1 q2146 q130 zn74 rfl (Nat.le_of_ble_eq_true rfl) (st := [.int (0 : Int32), va_rf x3]) rfl (zcs8 (Nat.le_of_ble_eq_true rfl)) rfl (zkI (fun v1 s2 hw => ?_)) (fun q3 s4 hw => by obtain ⟨f5, m6, hw⟩ := hw; refine z_catch hX [] ⟨0, 9, 12, 13⟩ [] (by rw [hTt]; rfl) (fun _ h => by cases h) (by decide) (by decide) q1056 (Or.inl rfl) (ci := 6) rfl rfl m6 ?_; show zW X s4 12 _ _; refine z_astore_n hX dX0_addAnswer_12 rfl (i := 3) (Nat.le_of_ble_eq_true rfl) (zc_rf _) (ls2 := [some (va_rf x1), some (.int x2), some (va_rf x3), some (va_rf (some q3))]) rfl ?_; refine z_iconst hX (v := (1 : Int32)) dX0_addAnswer_13 (by decide) ?_; exact z_ireturn hX hR dX0_addAnswer_14 rfl hw)
  refine z_i2l hX dX0_addAnswer_7 ?_
  obtain ⟨a12, n13, f14, r15, g16, m17, i18, hw⟩ := hw
  refine z_last hX dX0_addAnswer_8 r15 g16 m17 i18 (z_nm (fun s19 e20 => ?_))
  have hw := hw s19 e20
  refine z_goto hX dX0_addAnswer_9 (tgt := 15) rfl ?_
  refine z_iconst hX (v := (0 : Int32)) dX0_addAnswer_15 (by decide) ?_
  exact z_ireturn hX hR dX0_addAnswer_16 rfl hw
abbrev cX0_drop : ByteArray := method_20_code
def yX0_drop : MethodName := ⟨RX0, "drop", "(LPackingDuel;ZI[J)I"⟩
def dkwX0_drop_0 : List UInt8 := [45, 3, 42, 27, 28, 182, 0, 69, 133, 80, 167, 0, 7, 58, 4, 4, 172, 3, 172]
abbrev dktX0_drop_0 : List UInt8 := dkwX0_drop_0 ++ []
theorem dksX0_drop_0 : cX0_drop.data.toList.drop 0 = dktX0_drop_0 := by decide +kernel
theorem dX0_drop_0 : decode cX0_drop 0 = .ok (.aload_n 3, 1) := dk_45 (dk_at dksX0_drop_0 0 rfl rfl)
theorem dX0_drop_1 : decode cX0_drop 1 = .ok (.iconst 0, 1) := dk_3 (dk_at dksX0_drop_0 1 rfl rfl)
theorem dX0_drop_2 : decode cX0_drop 2 = .ok (.aload_n 0, 1) := dk_42 (dk_at dksX0_drop_0 2 rfl rfl)
theorem dX0_drop_3 : decode cX0_drop 3 = .ok (.iload_n 1, 1) := dk_27 (dk_at dksX0_drop_0 3 rfl rfl)
theorem dX0_drop_4 : decode cX0_drop 4 = .ok (.iload_n 2, 1) := dk_28 (dk_at dksX0_drop_0 4 rfl rfl)
theorem dX0_drop_5 : decode cX0_drop 5 = .ok (.invokevirtual 69, 3) := dk_182 0 69 (dk_at dksX0_drop_0 5 rfl rfl)
theorem dX0_drop_8 : decode cX0_drop 8 = .ok (.i2l, 1) := dk_133 (dk_at dksX0_drop_0 8 rfl rfl)
theorem dX0_drop_9 : decode cX0_drop 9 = .ok (.lastore, 1) := dk_80 (dk_at dksX0_drop_0 9 rfl rfl)
theorem dX0_drop_10 : decode cX0_drop 10 = .ok (.goto 7, 3) := dk_167 0 7 (dk_at dksX0_drop_0 10 rfl rfl)
theorem dX0_drop_13 : decode cX0_drop 13 = .ok (.astore 4, 2) := dk_58 4 (dk_at dksX0_drop_0 13 rfl rfl)
theorem dX0_drop_15 : decode cX0_drop 15 = .ok (.iconst 1, 1) := dk_4 (dk_at dksX0_drop_0 15 rfl rfl)
theorem dX0_drop_16 : decode cX0_drop 16 = .ok (.ireturn, 1) := dk_172 (dk_at dksX0_drop_0 16 rfl rfl)
theorem dX0_drop_17 : decode cX0_drop 17 = .ok (.iconst 0, 1) := dk_3 (dk_at dksX0_drop_0 17 rfl rfl)
theorem dX0_drop_18 : decode cX0_drop 18 = .ok (.ireturn, 1) := dk_172 (dk_at dksX0_drop_0 18 rfl rfl)
/-- PackingDuelLaw.drop(LPackingDuel;ZI[J)I -/
def zb17 (G : zPg) (C : zO) (args : List Value) (Q : zQ) (Y : zY) (σ : zS) : Prop := ∃ (x1 : Option Nat) (x2 : Int32) (x3 : Int32) (x4 : Option Nat), args = [va_rf x1, .int x2, .int x3, va_rf x4] ∧ (zrc σ x1 0 (fun a8 => zcl C 75 [.ref a8, .int x2, .int x3] (fun q3 s4 => (∃ f5, s4.1 q3 = some (.inr (16, f5)) ∧ Q (some (.int (1 : Int32))) s4)) σ (zqI (fun v1 s2 => zsL s2 G.1 x4 (0 : Int32) v1.toInt64 (fun s19 => Q (some (.int (0 : Int32))) s19)))))
set_option maxHeartbeats 4000000 in
theorem wk17 {l : Launch} {g : zG} {d : Nat} {C : zO} (hG : zGk g) (hC : zSound l g d C) {args : List Value} {Q : zQ} {Y : zY} {σ : zS} (hw : zb17 (zpg g) C args Q Y σ) : zMet l g (d + 1) (⟨"PackingDuelLaw", "drop", "(LPackingDuel;ZI[J)I"⟩, Cond.codeWith ⟨"PackingDuelLaw", "drop", "(LPackingDuel;ZI[J)I"⟩ method_20_code 5 (Option.some FieldType.int) [(0, 10, 13, 18)]) args σ Q Y := by
  obtain ⟨x1, x2, x3, x4, rfl, hw⟩ := hw
  refine zofW hG (by decide +kernel) [false, false, false, false] ⟨(zc_rf _), rfl, rfl, (zc_rf _), trivial⟩ (Nat.le_of_ble_eq_true rfl) (ls := [some (va_rf x1), some (.int x2), some (.int x3), some (va_rf x4), none]) rfl ?_
  intro X hX hR hTt hd1 hd2 hl hg hnm
  subst hl
  subst hg
  have hd : zDep X d := ⟨hd1, hd2⟩
  refine z_aload_n hX dX0_drop_0 rfl (i := 3) rfl ?_
  refine z_iconst hX (v := (0 : Int32)) dX0_drop_1 (by decide) ?_
  refine z_aload_n hX dX0_drop_2 rfl (i := 0) rfl ?_
  refine z_iload_n hX dX0_drop_3 rfl (i := 1) rfl ?_
  refine z_iload_n hX dX0_drop_4 rfl (i := 2) rfl ?_
  obtain ⟨a8, f9, r10, m11, hw⟩ := hw
  refine z_invV hX hd r10 (ci := 0) rfl rfl m11 dX0_drop_5 (hC 75 _ zm75 _ _ _ _ hw) q2150 q2151 q2152 zh1 q2153 q130 zn75 rfl (Nat.le_of_ble_eq_true rfl) (st := [.int (0 : Int32), va_rf x4]) rfl (zcs8 (Nat.le_of_ble_eq_true rfl)) rfl (zkI (fun v1 s2 hw => ?_)) (fun q3 s4 hw => by obtain ⟨f5, m6, hw⟩ := hw; refine z_catch hX [] ⟨0, 10, 13, 18⟩ [] (by rw [hTt]; rfl) (fun _ h => by cases h) (by decide) (by decide) q1634 (Or.inl rfl) (ci := 16) rfl rfl m6 ?_; show zW X s4 13 _ _; refine z_astore hX dX0_drop_13 (i := 4) (Nat.le_of_ble_eq_true rfl) (zc_rf _) (ls2 := [some (va_rf x1), some (.int x2), some (.int x3), some (va_rf x4), some (va_rf (some q3))]) rfl ?_; refine z_iconst hX (v := (1 : Int32)) dX0_drop_15 (by decide) ?_; exact z_ireturn hX hR dX0_drop_16 rfl hw)
  refine z_i2l hX dX0_drop_8 ?_
  obtain ⟨a12, n13, f14, r15, g16, m17, i18, hw⟩ := hw
  refine z_last hX dX0_drop_9 r15 g16 m17 i18 (z_nm (fun s19 e20 => ?_))
  have hw := hw s19 e20
  refine z_goto hX dX0_drop_10 (tgt := 17) rfl ?_
  refine z_iconst hX (v := (0 : Int32)) dX0_drop_17 (by decide) ?_
  exact z_ireturn hX hR dX0_drop_18 rfl hw
abbrev cX0_take : ByteArray := method_21_code
def yX0_take : MethodName := ⟨RX0, "take", "(LPackingDuel;I[J)I"⟩
def dkwX0_take_0 : List UInt8 := [44, 3, 42, 27, 182, 0, 72, 133, 80, 167, 0, 6, 78, 4, 172, 3, 172]
abbrev dktX0_take_0 : List UInt8 := dkwX0_take_0 ++ []
theorem dksX0_take_0 : cX0_take.data.toList.drop 0 = dktX0_take_0 := by decide +kernel
theorem dX0_take_0 : decode cX0_take 0 = .ok (.aload_n 2, 1) := dk_44 (dk_at dksX0_take_0 0 rfl rfl)
theorem dX0_take_1 : decode cX0_take 1 = .ok (.iconst 0, 1) := dk_3 (dk_at dksX0_take_0 1 rfl rfl)
theorem dX0_take_2 : decode cX0_take 2 = .ok (.aload_n 0, 1) := dk_42 (dk_at dksX0_take_0 2 rfl rfl)
theorem dX0_take_3 : decode cX0_take 3 = .ok (.iload_n 1, 1) := dk_27 (dk_at dksX0_take_0 3 rfl rfl)
theorem dX0_take_4 : decode cX0_take 4 = .ok (.invokevirtual 72, 3) := dk_182 0 72 (dk_at dksX0_take_0 4 rfl rfl)
theorem dX0_take_7 : decode cX0_take 7 = .ok (.i2l, 1) := dk_133 (dk_at dksX0_take_0 7 rfl rfl)
theorem dX0_take_8 : decode cX0_take 8 = .ok (.lastore, 1) := dk_80 (dk_at dksX0_take_0 8 rfl rfl)
theorem dX0_take_9 : decode cX0_take 9 = .ok (.goto 6, 3) := dk_167 0 6 (dk_at dksX0_take_0 9 rfl rfl)
theorem dX0_take_12 : decode cX0_take 12 = .ok (.astore_n 3, 1) := dk_78 (dk_at dksX0_take_0 12 rfl rfl)
theorem dX0_take_13 : decode cX0_take 13 = .ok (.iconst 1, 1) := dk_4 (dk_at dksX0_take_0 13 rfl rfl)
theorem dX0_take_14 : decode cX0_take 14 = .ok (.ireturn, 1) := dk_172 (dk_at dksX0_take_0 14 rfl rfl)
theorem dX0_take_15 : decode cX0_take 15 = .ok (.iconst 0, 1) := dk_3 (dk_at dksX0_take_0 15 rfl rfl)
theorem dX0_take_16 : decode cX0_take 16 = .ok (.ireturn, 1) := dk_172 (dk_at dksX0_take_0 16 rfl rfl)
/-- PackingDuelLaw.take(LPackingDuel;I[J)I -/
def zb18 (G : zPg) (C : zO) (args : List Value) (Q : zQ) (Y : zY) (σ : zS) : Prop := ∃ (x1 : Option Nat) (x2 : Int32) (x3 : Option Nat), args = [va_rf x1, .int x2, va_rf x3] ∧ (zrc σ x1 0 (fun a8 => zcl C 76 [.ref a8, .int x2] (fun q3 s4 => (∃ f5, s4.1 q3 = some (.inr (16, f5)) ∧ Q (some (.int (1 : Int32))) s4)) σ (zqI (fun v1 s2 => zsL s2 G.1 x3 (0 : Int32) v1.toInt64 (fun s19 => Q (some (.int (0 : Int32))) s19)))))
set_option maxHeartbeats 4000000 in
theorem wk18 {l : Launch} {g : zG} {d : Nat} {C : zO} (hG : zGk g) (hC : zSound l g d C) {args : List Value} {Q : zQ} {Y : zY} {σ : zS} (hw : zb18 (zpg g) C args Q Y σ) : zMet l g (d + 1) (⟨"PackingDuelLaw", "take", "(LPackingDuel;I[J)I"⟩, Cond.codeWith ⟨"PackingDuelLaw", "take", "(LPackingDuel;I[J)I"⟩ method_21_code 4 (Option.some FieldType.int) [(0, 9, 12, 18)]) args σ Q Y := by
  obtain ⟨x1, x2, x3, rfl, hw⟩ := hw
  refine zofW hG (by decide +kernel) [false, false, false] ⟨(zc_rf _), rfl, (zc_rf _), trivial⟩ (Nat.le_of_ble_eq_true rfl) (ls := [some (va_rf x1), some (.int x2), some (va_rf x3), none]) rfl ?_
  intro X hX hR hTt hd1 hd2 hl hg hnm
  subst hl
  subst hg
  have hd : zDep X d := ⟨hd1, hd2⟩
  refine z_aload_n hX dX0_take_0 rfl (i := 2) rfl ?_
  refine z_iconst hX (v := (0 : Int32)) dX0_take_1 (by decide) ?_
  refine z_aload_n hX dX0_take_2 rfl (i := 0) rfl ?_
  refine z_iload_n hX dX0_take_3 rfl (i := 1) rfl ?_
  obtain ⟨a8, f9, r10, m11, hw⟩ := hw
  refine z_invV hX hd r10 (ci := 0) rfl rfl m11 dX0_take_4 (hC 76 _ zm76 _ _ _ _ hw) q2158 q2159 q2160 zh1 q2161 q130 zn76 rfl (Nat.le_of_ble_eq_true rfl) (st := [.int (0 : Int32), va_rf x3]) rfl (zcs8 (Nat.le_of_ble_eq_true rfl)) rfl (zkI (fun v1 s2 hw => ?_)) (fun q3 s4 hw => by obtain ⟨f5, m6, hw⟩ := hw; refine z_catch hX [] ⟨0, 9, 12, 18⟩ [] (by rw [hTt]; rfl) (fun _ h => by cases h) (by decide) (by decide) q1634 (Or.inl rfl) (ci := 16) rfl rfl m6 ?_; show zW X s4 12 _ _; refine z_astore_n hX dX0_take_12 rfl (i := 3) (Nat.le_of_ble_eq_true rfl) (zc_rf _) (ls2 := [some (va_rf x1), some (.int x2), some (va_rf x3), some (va_rf (some q3))]) rfl ?_; refine z_iconst hX (v := (1 : Int32)) dX0_take_13 (by decide) ?_; exact z_ireturn hX hR dX0_take_14 rfl hw)
  refine z_i2l hX dX0_take_7 ?_
  obtain ⟨a12, n13, f14, r15, g16, m17, i18, hw⟩ := hw
  refine z_last hX dX0_take_8 r15 g16 m17 i18 (z_nm (fun s19 e20 => ?_))
  have hw := hw s19 e20
  refine z_goto hX dX0_take_9 (tgt := 15) rfl ?_
  refine z_iconst hX (v := (0 : Int32)) dX0_take_15 (by decide) ?_
  exact z_ireturn hX hR dX0_take_16 rfl hw
abbrev cX0_play : ByteArray := method_22_code
def yX0_play : MethodName := ⟨RX0, "play", "(LPackingDuel;I[J)I"⟩
def dkwX0_play_0 : List UInt8 := [44, 3, 42, 27, 182, 0, 75, 133, 80, 167, 0, 6, 78, 4, 172, 3, 172]
abbrev dktX0_play_0 : List UInt8 := dkwX0_play_0 ++ []
theorem dksX0_play_0 : cX0_play.data.toList.drop 0 = dktX0_play_0 := by decide +kernel
theorem dX0_play_0 : decode cX0_play 0 = .ok (.aload_n 2, 1) := dk_44 (dk_at dksX0_play_0 0 rfl rfl)
theorem dX0_play_1 : decode cX0_play 1 = .ok (.iconst 0, 1) := dk_3 (dk_at dksX0_play_0 1 rfl rfl)
theorem dX0_play_2 : decode cX0_play 2 = .ok (.aload_n 0, 1) := dk_42 (dk_at dksX0_play_0 2 rfl rfl)
theorem dX0_play_3 : decode cX0_play 3 = .ok (.iload_n 1, 1) := dk_27 (dk_at dksX0_play_0 3 rfl rfl)
theorem dX0_play_4 : decode cX0_play 4 = .ok (.invokevirtual 75, 3) := dk_182 0 75 (dk_at dksX0_play_0 4 rfl rfl)
theorem dX0_play_7 : decode cX0_play 7 = .ok (.i2l, 1) := dk_133 (dk_at dksX0_play_0 7 rfl rfl)
theorem dX0_play_8 : decode cX0_play 8 = .ok (.lastore, 1) := dk_80 (dk_at dksX0_play_0 8 rfl rfl)
theorem dX0_play_9 : decode cX0_play 9 = .ok (.goto 6, 3) := dk_167 0 6 (dk_at dksX0_play_0 9 rfl rfl)
theorem dX0_play_12 : decode cX0_play 12 = .ok (.astore_n 3, 1) := dk_78 (dk_at dksX0_play_0 12 rfl rfl)
theorem dX0_play_13 : decode cX0_play 13 = .ok (.iconst 1, 1) := dk_4 (dk_at dksX0_play_0 13 rfl rfl)
theorem dX0_play_14 : decode cX0_play 14 = .ok (.ireturn, 1) := dk_172 (dk_at dksX0_play_0 14 rfl rfl)
theorem dX0_play_15 : decode cX0_play 15 = .ok (.iconst 0, 1) := dk_3 (dk_at dksX0_play_0 15 rfl rfl)
theorem dX0_play_16 : decode cX0_play 16 = .ok (.ireturn, 1) := dk_172 (dk_at dksX0_play_0 16 rfl rfl)
/-- PackingDuelLaw.play(LPackingDuel;I[J)I -/
def zb19 (G : zPg) (C : zO) (args : List Value) (Q : zQ) (Y : zY) (σ : zS) : Prop := ∃ (x1 : Option Nat) (x2 : Int32) (x3 : Option Nat), args = [va_rf x1, .int x2, va_rf x3] ∧ (zrc σ x1 0 (fun a8 => zcl C 77 [.ref a8, .int x2] (fun q3 s4 => (∃ f5, s4.1 q3 = some (.inr (6, f5)) ∧ Q (some (.int (1 : Int32))) s4)) σ (zqI (fun v1 s2 => zsL s2 G.1 x3 (0 : Int32) v1.toInt64 (fun s19 => Q (some (.int (0 : Int32))) s19)))))
set_option maxHeartbeats 4000000 in
theorem wk19 {l : Launch} {g : zG} {d : Nat} {C : zO} (hG : zGk g) (hC : zSound l g d C) {args : List Value} {Q : zQ} {Y : zY} {σ : zS} (hw : zb19 (zpg g) C args Q Y σ) : zMet l g (d + 1) (⟨"PackingDuelLaw", "play", "(LPackingDuel;I[J)I"⟩, Cond.codeWith ⟨"PackingDuelLaw", "play", "(LPackingDuel;I[J)I"⟩ method_22_code 4 (Option.some FieldType.int) [(0, 9, 12, 13)]) args σ Q Y := by
  obtain ⟨x1, x2, x3, rfl, hw⟩ := hw
  refine zofW hG (by decide +kernel) [false, false, false] ⟨(zc_rf _), rfl, (zc_rf _), trivial⟩ (Nat.le_of_ble_eq_true rfl) (ls := [some (va_rf x1), some (.int x2), some (va_rf x3), none]) rfl ?_
  intro X hX hR hTt hd1 hd2 hl hg hnm
  subst hl
  subst hg
  have hd : zDep X d := ⟨hd1, hd2⟩
  refine z_aload_n hX dX0_play_0 rfl (i := 2) rfl ?_
  refine z_iconst hX (v := (0 : Int32)) dX0_play_1 (by decide) ?_
  refine z_aload_n hX dX0_play_2 rfl (i := 0) rfl ?_
  refine z_iload_n hX dX0_play_3 rfl (i := 1) rfl ?_
  obtain ⟨a8, f9, r10, m11, hw⟩ := hw
  refine z_invV hX hd r10 (ci := 0) rfl rfl m11 dX0_play_4 (hC 77 _ zm77 _ _ _ _ hw) q2166 q2167 q2168 zh1 q2169 q130 zn77 rfl (Nat.le_of_ble_eq_true rfl) (st := [.int (0 : Int32), va_rf x3]) rfl (zcs8 (Nat.le_of_ble_eq_true rfl)) rfl (zkI (fun v1 s2 hw => ?_)) (fun q3 s4 hw => by obtain ⟨f5, m6, hw⟩ := hw; refine z_catch hX [] ⟨0, 9, 12, 13⟩ [] (by rw [hTt]; rfl) (fun _ h => by cases h) (by decide) (by decide) q1056 (Or.inl rfl) (ci := 6) rfl rfl m6 ?_; show zW X s4 12 _ _; refine z_astore_n hX dX0_play_12 rfl (i := 3) (Nat.le_of_ble_eq_true rfl) (zc_rf _) (ls2 := [some (va_rf x1), some (.int x2), some (va_rf x3), some (va_rf (some q3))]) rfl ?_; refine z_iconst hX (v := (1 : Int32)) dX0_play_13 (by decide) ?_; exact z_ireturn hX hR dX0_play_14 rfl hw)
  refine z_i2l hX dX0_play_7 ?_
  obtain ⟨a12, n13, f14, r15, g16, m17, i18, hw⟩ := hw
  refine z_last hX dX0_play_8 r15 g16 m17 i18 (z_nm (fun s19 e20 => ?_))
  have hw := hw s19 e20
  refine z_goto hX dX0_play_9 (tgt := 15) rfl ?_
  refine z_iconst hX (v := (0 : Int32)) dX0_play_15 (by decide) ?_
  exact z_ireturn hX hR dX0_play_16 rfl hw
abbrev cX0_format : ByteArray := method_23_code
def yX0_format : MethodName := ⟨RX0, "format", "(LPackingDuel;I[J)I"⟩
def dkwX0_format_0 : List UInt8 := [44, 3, 42, 27, 182, 0, 78, 133, 80, 167, 0, 6, 78, 4, 172, 3, 172]
abbrev dktX0_format_0 : List UInt8 := dkwX0_format_0 ++ []
theorem dksX0_format_0 : cX0_format.data.toList.drop 0 = dktX0_format_0 := by decide +kernel
theorem dX0_format_0 : decode cX0_format 0 = .ok (.aload_n 2, 1) := dk_44 (dk_at dksX0_format_0 0 rfl rfl)
theorem dX0_format_1 : decode cX0_format 1 = .ok (.iconst 0, 1) := dk_3 (dk_at dksX0_format_0 1 rfl rfl)
theorem dX0_format_2 : decode cX0_format 2 = .ok (.aload_n 0, 1) := dk_42 (dk_at dksX0_format_0 2 rfl rfl)
theorem dX0_format_3 : decode cX0_format 3 = .ok (.iload_n 1, 1) := dk_27 (dk_at dksX0_format_0 3 rfl rfl)
theorem dX0_format_4 : decode cX0_format 4 = .ok (.invokevirtual 78, 3) := dk_182 0 78 (dk_at dksX0_format_0 4 rfl rfl)
theorem dX0_format_7 : decode cX0_format 7 = .ok (.i2l, 1) := dk_133 (dk_at dksX0_format_0 7 rfl rfl)
theorem dX0_format_8 : decode cX0_format 8 = .ok (.lastore, 1) := dk_80 (dk_at dksX0_format_0 8 rfl rfl)
theorem dX0_format_9 : decode cX0_format 9 = .ok (.goto 6, 3) := dk_167 0 6 (dk_at dksX0_format_0 9 rfl rfl)
theorem dX0_format_12 : decode cX0_format 12 = .ok (.astore_n 3, 1) := dk_78 (dk_at dksX0_format_0 12 rfl rfl)
theorem dX0_format_13 : decode cX0_format 13 = .ok (.iconst 1, 1) := dk_4 (dk_at dksX0_format_0 13 rfl rfl)
theorem dX0_format_14 : decode cX0_format 14 = .ok (.ireturn, 1) := dk_172 (dk_at dksX0_format_0 14 rfl rfl)
theorem dX0_format_15 : decode cX0_format 15 = .ok (.iconst 0, 1) := dk_3 (dk_at dksX0_format_0 15 rfl rfl)
theorem dX0_format_16 : decode cX0_format 16 = .ok (.ireturn, 1) := dk_172 (dk_at dksX0_format_0 16 rfl rfl)
/-- PackingDuelLaw.format(LPackingDuel;I[J)I -/
def zb20 (G : zPg) (C : zO) (args : List Value) (Q : zQ) (Y : zY) (σ : zS) : Prop := ∃ (x1 : Option Nat) (x2 : Int32) (x3 : Option Nat), args = [va_rf x1, .int x2, va_rf x3] ∧ (zrc σ x1 0 (fun a8 => zcl C 78 [.ref a8, .int x2] (fun q3 s4 => (∃ f5, s4.1 q3 = some (.inr (6, f5)) ∧ Q (some (.int (1 : Int32))) s4)) σ (zqI (fun v1 s2 => zsL s2 G.1 x3 (0 : Int32) v1.toInt64 (fun s19 => Q (some (.int (0 : Int32))) s19)))))
set_option maxHeartbeats 4000000 in
theorem wk20 {l : Launch} {g : zG} {d : Nat} {C : zO} (hG : zGk g) (hC : zSound l g d C) {args : List Value} {Q : zQ} {Y : zY} {σ : zS} (hw : zb20 (zpg g) C args Q Y σ) : zMet l g (d + 1) (⟨"PackingDuelLaw", "format", "(LPackingDuel;I[J)I"⟩, Cond.codeWith ⟨"PackingDuelLaw", "format", "(LPackingDuel;I[J)I"⟩ method_23_code 4 (Option.some FieldType.int) [(0, 9, 12, 13)]) args σ Q Y := by
  obtain ⟨x1, x2, x3, rfl, hw⟩ := hw
  refine zofW hG (by decide +kernel) [false, false, false] ⟨(zc_rf _), rfl, (zc_rf _), trivial⟩ (Nat.le_of_ble_eq_true rfl) (ls := [some (va_rf x1), some (.int x2), some (va_rf x3), none]) rfl ?_
  intro X hX hR hTt hd1 hd2 hl hg hnm
  subst hl
  subst hg
  have hd : zDep X d := ⟨hd1, hd2⟩
  refine z_aload_n hX dX0_format_0 rfl (i := 2) rfl ?_
  refine z_iconst hX (v := (0 : Int32)) dX0_format_1 (by decide) ?_
  refine z_aload_n hX dX0_format_2 rfl (i := 0) rfl ?_
  refine z_iload_n hX dX0_format_3 rfl (i := 1) rfl ?_
  obtain ⟨a8, f9, r10, m11, hw⟩ := hw
  refine z_invV hX hd r10 (ci := 0) rfl rfl m11 dX0_format_4 (hC 78 _ zm78 _ _ _ _ hw) q2174 q2175 q2176 zh1 q2177 q130 zn78 rfl (Nat.le_of_ble_eq_true rfl) (st := [.int (0 : Int32), va_rf x3]) rfl (zcs8 (Nat.le_of_ble_eq_true rfl)) rfl (zkI (fun v1 s2 hw => ?_)) (fun q3 s4 hw => by obtain ⟨f5, m6, hw⟩ := hw; refine z_catch hX [] ⟨0, 9, 12, 13⟩ [] (by rw [hTt]; rfl) (fun _ h => by cases h) (by decide) (by decide) q1056 (Or.inl rfl) (ci := 6) rfl rfl m6 ?_; show zW X s4 12 _ _; refine z_astore_n hX dX0_format_12 rfl (i := 3) (Nat.le_of_ble_eq_true rfl) (zc_rf _) (ls2 := [some (va_rf x1), some (.int x2), some (va_rf x3), some (va_rf (some q3))]) rfl ?_; refine z_iconst hX (v := (1 : Int32)) dX0_format_13 (by decide) ?_; exact z_ireturn hX hR dX0_format_14 rfl hw)
  refine z_i2l hX dX0_format_7 ?_
  obtain ⟨a12, n13, f14, r15, g16, m17, i18, hw⟩ := hw
  refine z_last hX dX0_format_8 r15 g16 m17 i18 (z_nm (fun s19 e20 => ?_))
  have hw := hw s19 e20
  refine z_goto hX dX0_format_9 (tgt := 15) rfl ?_
  refine z_iconst hX (v := (0 : Int32)) dX0_format_15 (by decide) ?_
  exact z_ireturn hX hR dX0_format_16 rfl hw
abbrev cX0_query : ByteArray := method_24_code
def yX0_query : MethodName := ⟨RX0, "query", "(LPackingDuel;I[J)I"⟩
def dkwX0_query_0 : List UInt8 := [44, 3, 42, 27, 182, 0, 81, 133, 80, 167, 0, 6, 78, 4, 172, 3, 172]
abbrev dktX0_query_0 : List UInt8 := dkwX0_query_0 ++ []
theorem dksX0_query_0 : cX0_query.data.toList.drop 0 = dktX0_query_0 := by decide +kernel
theorem dX0_query_0 : decode cX0_query 0 = .ok (.aload_n 2, 1) := dk_44 (dk_at dksX0_query_0 0 rfl rfl)
theorem dX0_query_1 : decode cX0_query 1 = .ok (.iconst 0, 1) := dk_3 (dk_at dksX0_query_0 1 rfl rfl)
theorem dX0_query_2 : decode cX0_query 2 = .ok (.aload_n 0, 1) := dk_42 (dk_at dksX0_query_0 2 rfl rfl)
theorem dX0_query_3 : decode cX0_query 3 = .ok (.iload_n 1, 1) := dk_27 (dk_at dksX0_query_0 3 rfl rfl)
theorem dX0_query_4 : decode cX0_query 4 = .ok (.invokevirtual 81, 3) := dk_182 0 81 (dk_at dksX0_query_0 4 rfl rfl)
theorem dX0_query_7 : decode cX0_query 7 = .ok (.i2l, 1) := dk_133 (dk_at dksX0_query_0 7 rfl rfl)
theorem dX0_query_8 : decode cX0_query 8 = .ok (.lastore, 1) := dk_80 (dk_at dksX0_query_0 8 rfl rfl)
theorem dX0_query_9 : decode cX0_query 9 = .ok (.goto 6, 3) := dk_167 0 6 (dk_at dksX0_query_0 9 rfl rfl)
theorem dX0_query_12 : decode cX0_query 12 = .ok (.astore_n 3, 1) := dk_78 (dk_at dksX0_query_0 12 rfl rfl)
theorem dX0_query_13 : decode cX0_query 13 = .ok (.iconst 1, 1) := dk_4 (dk_at dksX0_query_0 13 rfl rfl)
theorem dX0_query_14 : decode cX0_query 14 = .ok (.ireturn, 1) := dk_172 (dk_at dksX0_query_0 14 rfl rfl)
theorem dX0_query_15 : decode cX0_query 15 = .ok (.iconst 0, 1) := dk_3 (dk_at dksX0_query_0 15 rfl rfl)
theorem dX0_query_16 : decode cX0_query 16 = .ok (.ireturn, 1) := dk_172 (dk_at dksX0_query_0 16 rfl rfl)
/-- PackingDuelLaw.query(LPackingDuel;I[J)I -/
def zb21 (G : zPg) (C : zO) (args : List Value) (Q : zQ) (Y : zY) (σ : zS) : Prop := ∃ (x1 : Option Nat) (x2 : Int32) (x3 : Option Nat), args = [va_rf x1, .int x2, va_rf x3] ∧ (zrc σ x1 0 (fun a8 => zcl C 79 [.ref a8, .int x2] (fun q3 s4 => (∃ f5, s4.1 q3 = some (.inr (6, f5)) ∧ Q (some (.int (1 : Int32))) s4)) σ (zqI (fun v1 s2 => zsL s2 G.1 x3 (0 : Int32) v1.toInt64 (fun s19 => Q (some (.int (0 : Int32))) s19)))))
set_option maxHeartbeats 4000000 in
theorem wk21 {l : Launch} {g : zG} {d : Nat} {C : zO} (hG : zGk g) (hC : zSound l g d C) {args : List Value} {Q : zQ} {Y : zY} {σ : zS} (hw : zb21 (zpg g) C args Q Y σ) : zMet l g (d + 1) (⟨"PackingDuelLaw", "query", "(LPackingDuel;I[J)I"⟩, Cond.codeWith ⟨"PackingDuelLaw", "query", "(LPackingDuel;I[J)I"⟩ method_24_code 4 (Option.some FieldType.int) [(0, 9, 12, 13)]) args σ Q Y := by
  obtain ⟨x1, x2, x3, rfl, hw⟩ := hw
  refine zofW hG (by decide +kernel) [false, false, false] ⟨(zc_rf _), rfl, (zc_rf _), trivial⟩ (Nat.le_of_ble_eq_true rfl) (ls := [some (va_rf x1), some (.int x2), some (va_rf x3), none]) rfl ?_
  intro X hX hR hTt hd1 hd2 hl hg hnm
  subst hl
  subst hg
  have hd : zDep X d := ⟨hd1, hd2⟩
  refine z_aload_n hX dX0_query_0 rfl (i := 2) rfl ?_
  refine z_iconst hX (v := (0 : Int32)) dX0_query_1 (by decide) ?_
  refine z_aload_n hX dX0_query_2 rfl (i := 0) rfl ?_
  refine z_iload_n hX dX0_query_3 rfl (i := 1) rfl ?_
  obtain ⟨a8, f9, r10, m11, hw⟩ := hw
  refine z_invVX hX hd r10 (ci := 0) rfl rfl m11 dX0_query_4 (hC 79 _ zm79 _ _ _ _ hw) q2187 q2188 q2189 zh1 q2190 q130 zn79 rfl (Nat.le_of_ble_eq_true rfl) (st := [.int (0 : Int32), va_rf x3]) rfl (zcs8 (Nat.le_of_ble_eq_true rfl)) rfl (zkI (fun v1 s2 hw => ?_)) (fun q3 s4 hw => by obtain ⟨f5, m6, hw⟩ := hw; refine z_catch hX [] ⟨0, 9, 12, 13⟩ [] (by rw [hTt]; rfl) (fun _ h => by cases h) (by decide) (by decide) q1056 (Or.inl rfl) (ci := 6) rfl rfl m6 ?_; show zW X s4 12 _ _; refine z_astore_n hX dX0_query_12 rfl (i := 3) (Nat.le_of_ble_eq_true rfl) (zc_rf _) (ls2 := [some (va_rf x1), some (.int x2), some (va_rf x3), some (va_rf (some q3))]) rfl ?_; refine z_iconst hX (v := (1 : Int32)) dX0_query_13 (by decide) ?_; exact z_ireturn hX hR dX0_query_14 rfl hw)
  refine z_i2l hX dX0_query_7 ?_
  obtain ⟨a12, n13, f14, r15, g16, m17, i18, hw⟩ := hw
  refine z_last hX dX0_query_8 r15 g16 m17 i18 (z_nm (fun s19 e20 => ?_))
  have hw := hw s19 e20
  refine z_goto hX dX0_query_9 (tgt := 15) rfl ?_
  refine z_iconst hX (v := (0 : Int32)) dX0_query_15 (by decide) ?_
  exact z_ireturn hX hR dX0_query_16 rfl hw
abbrev cX1_load : ByteArray := prog_1_method_12_code
def yX1_load : MethodName := ⟨RX1, "load", "(I)I"⟩
def dkwX1_load_2 : List UInt8 := [42, 180, 0, 46, 180, 0, 123, 182, 0, 126, 172]
abbrev dktX1_load_2 : List UInt8 := dkwX1_load_2 ++ []
def dkwX1_load_1 : List UInt8 := [167, 0, 12, 77, 42, 44, 16, 246, 182, 0, 113, 172, 42, 180, 0, 53, 182, 0, 117, 42, 1, 181, 0, 120]
abbrev dktX1_load_1 : List UInt8 := dkwX1_load_1 ++ dktX1_load_2
def dkwX1_load_0 : List UInt8 := [42, 27, 17, 1, 244, 182, 0, 100, 42, 187, 0, 104, 89, 42, 27, 183, 0, 106, 182, 0, 109, 181, 0, 46]
abbrev dktX1_load_0 : List UInt8 := dkwX1_load_0 ++ dktX1_load_1
theorem dksX1_load_0 : cX1_load.data.toList.drop 0 = dktX1_load_0 := by decide +kernel
theorem dksX1_load_1 : cX1_load.data.toList.drop 24 = dktX1_load_1 := dk_seg dksX1_load_0 24 rfl rfl
theorem dksX1_load_2 : cX1_load.data.toList.drop 48 = dktX1_load_2 := dk_seg dksX1_load_1 24 rfl rfl
theorem dX1_load_0 : decode cX1_load 0 = .ok (.aload_n 0, 1) := dk_42 (dk_at dksX1_load_0 0 rfl rfl)
theorem dX1_load_1 : decode cX1_load 1 = .ok (.iload_n 1, 1) := dk_27 (dk_at dksX1_load_0 1 rfl rfl)
theorem dX1_load_2 : decode cX1_load 2 = .ok (.sipush 500, 3) := dk_17 1 244 (dk_at dksX1_load_0 2 rfl rfl)
theorem dX1_load_5 : decode cX1_load 5 = .ok (.invokevirtual 100, 3) := dk_182 0 100 (dk_at dksX1_load_0 5 rfl rfl)
theorem dX1_load_8 : decode cX1_load 8 = .ok (.aload_n 0, 1) := dk_42 (dk_at dksX1_load_0 8 rfl rfl)
theorem dX1_load_9 : decode cX1_load 9 = .ok (.new 104, 3) := dk_187 0 104 (dk_at dksX1_load_0 9 rfl rfl)
theorem dX1_load_12 : decode cX1_load 12 = .ok (.dup, 1) := dk_89 (dk_at dksX1_load_0 12 rfl rfl)
theorem dX1_load_13 : decode cX1_load 13 = .ok (.aload_n 0, 1) := dk_42 (dk_at dksX1_load_0 13 rfl rfl)
theorem dX1_load_14 : decode cX1_load 14 = .ok (.iload_n 1, 1) := dk_27 (dk_at dksX1_load_0 14 rfl rfl)
theorem dX1_load_15 : decode cX1_load 15 = .ok (.invokespecial 106, 3) := dk_183 0 106 (dk_at dksX1_load_0 15 rfl rfl)
theorem dX1_load_18 : decode cX1_load 18 = .ok (.invokevirtual 109, 3) := dk_182 0 109 (dk_at dksX1_load_0 18 rfl rfl)
theorem dX1_load_21 : decode cX1_load 21 = .ok (.putfield 46, 3) := dk_181 0 46 (dk_at dksX1_load_0 21 rfl rfl)
theorem dX1_load_24 : decode cX1_load 24 = .ok (.goto 12, 3) := dk_167 0 12 (dk_at dksX1_load_1 0 rfl rfl)
theorem dX1_load_27 : decode cX1_load 27 = .ok (.astore_n 2, 1) := dk_77 (dk_at dksX1_load_1 3 rfl rfl)
theorem dX1_load_28 : decode cX1_load 28 = .ok (.aload_n 0, 1) := dk_42 (dk_at dksX1_load_1 4 rfl rfl)
theorem dX1_load_29 : decode cX1_load 29 = .ok (.aload_n 2, 1) := dk_44 (dk_at dksX1_load_1 5 rfl rfl)
theorem dX1_load_30 : decode cX1_load 30 = .ok (.bipush (-10), 2) := dk_16 246 (dk_at dksX1_load_1 6 rfl rfl)
theorem dX1_load_32 : decode cX1_load 32 = .ok (.invokevirtual 113, 3) := dk_182 0 113 (dk_at dksX1_load_1 8 rfl rfl)
theorem dX1_load_35 : decode cX1_load 35 = .ok (.ireturn, 1) := dk_172 (dk_at dksX1_load_1 11 rfl rfl)
theorem dX1_load_36 : decode cX1_load 36 = .ok (.aload_n 0, 1) := dk_42 (dk_at dksX1_load_1 12 rfl rfl)
theorem dX1_load_37 : decode cX1_load 37 = .ok (.getfield 53, 3) := dk_180 0 53 (dk_at dksX1_load_1 13 rfl rfl)
theorem dX1_load_40 : decode cX1_load 40 = .ok (.invokevirtual 117, 3) := dk_182 0 117 (dk_at dksX1_load_1 16 rfl rfl)
theorem dX1_load_43 : decode cX1_load 43 = .ok (.aload_n 0, 1) := dk_42 (dk_at dksX1_load_1 19 rfl rfl)
theorem dX1_load_44 : decode cX1_load 44 = .ok (.aconst_null, 1) := dk_1 (dk_at dksX1_load_1 20 rfl rfl)
theorem dX1_load_45 : decode cX1_load 45 = .ok (.putfield 120, 3) := dk_181 0 120 (dk_at dksX1_load_1 21 rfl rfl)
theorem dX1_load_48 : decode cX1_load 48 = .ok (.aload_n 0, 1) := dk_42 (dk_at dksX1_load_2 0 rfl rfl)
theorem dX1_load_49 : decode cX1_load 49 = .ok (.getfield 46, 3) := dk_180 0 46 (dk_at dksX1_load_2 1 rfl rfl)
theorem dX1_load_52 : decode cX1_load 52 = .ok (.getfield 123, 3) := dk_180 0 123 (dk_at dksX1_load_2 4 rfl rfl)
theorem dX1_load_55 : decode cX1_load 55 = .ok (.invokevirtual 126, 3) := dk_182 0 126 (dk_at dksX1_load_2 7 rfl rfl)
theorem dX1_load_58 : decode cX1_load 58 = .ok (.ireturn, 1) := dk_172 (dk_at dksX1_load_2 10 rfl rfl)
/-- PackingDuel.load(I)I -/
def zb49 (G : zPg) (C : zO) (args : List Value) (Q : zQ) (Y : zY) (σ : zS) : Prop := ∃ (a0 : Nat) (x1 : Int32), args = [.ref a0, .int x1] ∧ (zrc σ (some a0) 0 (fun a4 => zcl C 50 [.ref a4, .int x1, .int (500 : Int32)] Y σ (zqV (fun s2 => znew s2 7 [va_rf none, .int 0, .int 0, .int 0, .int 0, .int 0, va_rf none, va_rf none, va_rf none, va_rf none] 10 (fun s8 => (∃ a25, (some s2.2.1) = some a25 ∧ zcl C 324 [.ref a25, va_rf (some a0), .int x1] (fun q13 s14 => (∃ f15, s14.1 q13 = some (.inr (11, f15)) ∧ zrc s14 (some a0) 0 (fun a20 => zcl C 52 [.ref a20, va_rf (some q13), .int (-10 : Int32)] Y s14 (zqI (fun v17 s18 => Q (some (.int v17)) s18))))) s8 (zqV (fun s12 => zrc s12 (some s2.2.1) 7 (fun a41 => zcl C 325 [.ref a41] (fun q29 s30 => (∃ f31, s30.1 q29 = some (.inr (11, f31)) ∧ zrc s30 (some a0) 0 (fun a36 => zcl C 52 [.ref a36, va_rf (some q29), .int (-10 : Int32)] Y s30 (zqI (fun v33 s34 => Q (some (.int v33)) s34))))) s12 (zqR (fun v27 s28 => zput s28 G.1 (some a0) 0 0 (va_rf v27) (fun s45 => zgR s45 (some a0) 0 2 (fun v53 => zrc s45 v53 3 (fun a62 => zcl C 152 [.ref a62] Y s45 (zqV (fun s60 => zput s60 G.1 (some a0) 0 1 (va_rf none) (fun s66 => zgR s66 (some a0) 0 0 (fun v74 => zgR s66 v74 1 0 (fun v80 => zrc s66 v80 2 (fun a89 => zcl C 128 [.ref a89] Y s66 (zqI (fun v86 s87 => Q (some (.int v86)) s87))))))))))))))))))))))
set_option maxHeartbeats 4000000 in
theorem wk49 {l : Launch} {g : zG} {d : Nat} {C : zO} (hG : zGk g) (hC : zSound l g d C) {args : List Value} {Q : zQ} {Y : zY} {σ : zS} (hw : zb49 (zpg g) C args Q Y σ) : zMet l g (d + 1) (⟨"PackingDuel", "load", "(I)I"⟩, Cond.codeWith ⟨"PackingDuel", "load", "(I)I"⟩ prog_1_method_12_code 3 (Option.some FieldType.int) [(8, 24, 27, 93)]) args σ Q Y := by
  obtain ⟨a0, x1, rfl, hw⟩ := hw
  refine zofW hG (by decide +kernel) [false, false] ⟨rfl, rfl, trivial⟩ (Nat.le_of_ble_eq_true rfl) (ls := [some (va_rf (some a0)), some (.int x1), none]) rfl ?_
  intro X hX hR hTt hd1 hd2 hl hg hnm
  subst hl
  subst hg
  have hd : zDep X d := ⟨hd1, hd2⟩
  refine z_aload_n hX dX1_load_0 rfl (i := 0) rfl ?_
  refine z_iload_n hX dX1_load_1 rfl (i := 1) rfl ?_
  refine z_sipush hX (v := (500 : Int32)) dX1_load_2 (by decide) ?_
  obtain ⟨a4, f5, r6, m7, hw⟩ := hw
  refine z_invV hX hd r6 (ci := 0) rfl rfl m7 dX1_load_5 (hC 50 _ zm50 _ _ _ _ hw) q1062 q1064 qs18 zh1 q1065 q130 zn50 rfl (Nat.le_of_ble_eq_true rfl) (st := []) rfl (zcs8 (Nat.le_of_ble_eq_true rfl)) rfl (zkV (fun s2 hw => ?_)) (zoutH hX hR hTt (by decide))
  refine z_aload_n hX dX1_load_8 rfl (i := 0) rfl ?_
  refine z_new hX zc7 dX1_load_9 q1085 q1086 q143 (fs := [va_rf none, .int 0, .int 0, .int 0, .int 0, .int 0, va_rf none, va_rf none, va_rf none, va_rf none]) (fun j hj => by have hj : j < 10 := hj; exact zdf7 j hj) hw.1 hw.2.1 (fun z9 => z_nm (fun s8 e10 => ?_))
  have hw := hw.2.2 z9 s8 e10
  refine z_dup hX dX1_load_12 (zc_rf _) ?_
  refine z_aload_n hX dX1_load_13 rfl (i := 0) rfl ?_
  refine z_iload_n hX dX1_load_14 rfl (i := 1) rfl ?_
  obtain ⟨a25, r26, hw⟩ := hw
  refine z_invI hX hd r26 dX1_load_15 (hC 324 _ zm324 _ _ _ _ hw) q1087 q1088 rfl zh14 q1089 q143 zn324 rfl (Nat.le_of_ble_eq_true rfl) (st := [va_rf (some s2.2.1), va_rf (some a0)]) rfl (zcs8 (Nat.le_of_ble_eq_true rfl)) rfl (zkV (fun s12 hw => ?_)) (fun q13 s14 hw => by obtain ⟨f15, m16, hw⟩ := hw; refine z_catch hX [] ⟨8, 24, 27, 93⟩ [] (by rw [hTt]; rfl) (fun _ h => by cases h) (by decide) (by decide) q1061 (Or.inl rfl) (ci := 11) rfl rfl m16 ?_; show zW X s14 27 _ _; refine z_astore_n hX dX1_load_27 rfl (i := 2) (Nat.le_of_ble_eq_true rfl) rfl (ls2 := [some (va_rf (some a0)), some (.int x1), some (va_rf (some q13))]) rfl ?_; refine z_aload_n hX dX1_load_28 rfl (i := 0) rfl ?_; refine z_aload_n hX dX1_load_29 rfl (i := 2) rfl ?_; refine z_bipush hX (v := (-10 : Int32)) dX1_load_30 (by decide) ?_; obtain ⟨a20, f21, r22, m23, hw⟩ := hw; refine z_invV hX hd r22 (ci := 0) rfl rfl m23 dX1_load_32 (hC 52 _ zm52 _ _ _ _ hw) q1626 q1628 qs24 zh1 q1629 q130 zn52 rfl (Nat.le_of_ble_eq_true rfl) (st := []) rfl (zcs8 (Nat.le_of_ble_eq_true rfl)) rfl (zkI (fun v17 s18 hw => ?_)) (zoutH hX hR hTt (by decide)); exact z_ireturn hX hR dX1_load_35 rfl hw)
  obtain ⟨a41, f42, r43, m44, hw⟩ := hw
  refine z_invV hX hd r43 (ci := 7) rfl rfl m44 dX1_load_18 (hC 325 _ zm325 _ _ _ _ hw) q1410 q1411 q1412 zh14 q1413 q143 zn325 rfl (Nat.le_of_ble_eq_true rfl) (st := [va_rf (some a0)]) rfl (zcs8 (Nat.le_of_ble_eq_true rfl)) rfl (zkR (fun v27 s28 hw => ?_)) (fun q29 s30 hw => by obtain ⟨f31, m32, hw⟩ := hw; refine z_catch hX [] ⟨8, 24, 27, 93⟩ [] (by rw [hTt]; rfl) (fun _ h => by cases h) (by decide) (by decide) q1061 (Or.inl rfl) (ci := 11) rfl rfl m32 ?_; show zW X s30 27 _ _; refine z_astore_n hX dX1_load_27 rfl (i := 2) (Nat.le_of_ble_eq_true rfl) rfl (ls2 := [some (va_rf (some a0)), some (.int x1), some (va_rf (some q29))]) rfl ?_; refine z_aload_n hX dX1_load_28 rfl (i := 0) rfl ?_; refine z_aload_n hX dX1_load_29 rfl (i := 2) rfl ?_; refine z_bipush hX (v := (-10 : Int32)) dX1_load_30 (by decide) ?_; obtain ⟨a36, f37, r38, m39, hw⟩ := hw; refine z_invV hX hd r38 (ci := 0) rfl rfl m39 dX1_load_32 (hC 52 _ zm52 _ _ _ _ hw) q1626 q1628 qs24 zh1 q1629 q130 zn52 rfl (Nat.le_of_ble_eq_true rfl) (st := []) rfl (zcs8 (Nat.le_of_ble_eq_true rfl)) rfl (zkI (fun v33 s34 hw => ?_)) (zoutH hX hR hTt (by decide)); exact z_ireturn hX hR dX1_load_35 rfl hw)
  obtain ⟨a47, f48, r49, g50, m51, l52, hw⟩ := hw
  refine z_put hX zc0 (k := 0) dX1_load_21 (Nat.le_of_ble_eq_true rfl) (zlk hX q307) rfl (zn_o _ _) (zf_o _ _) r49 g50 m51 l52 (z_nm (fun s45 e46 => ?_))
  have hw := hw s45 e46
  refine z_goto hX dX1_load_24 (tgt := 36) rfl ?_
  refine z_aload_n hX dX1_load_36 rfl (i := 0) rfl ?_
  obtain ⟨a54, f55, v53, r56, m57, e58, hw⟩ := hw
  refine z_get hX zc0 (k := 2) dX1_load_37 (Nat.le_of_ble_eq_true rfl) (zlk hX q309) r56 m57 e58 ?_
  obtain ⟨a62, f63, r64, m65, hw⟩ := hw
  refine z_invV hX hd r64 (ci := 3) rfl rfl m65 dX1_load_40 (hC 152 _ zm152 _ _ _ _ hw) q993 q994 q995 zh6 q996 q135 zn152 rfl (Nat.le_of_ble_eq_true rfl) (st := []) rfl (zcs8 (Nat.le_of_ble_eq_true rfl)) rfl (zkV (fun s60 hw => ?_)) (zoutH hX hR hTt (by decide))
  refine z_aload_n hX dX1_load_43 rfl (i := 0) rfl ?_
  refine z_null hX dX1_load_44 ?_
  obtain ⟨a68, f69, r70, g71, m72, l73, hw⟩ := hw
  refine z_put hX zc0 (k := 1) dX1_load_45 (Nat.le_of_ble_eq_true rfl) (zlk hX q308) rfl (zn_o _ _) (zf_o _ _) r70 g71 m72 l73 (z_nm (fun s66 e67 => ?_))
  have hw := hw s66 e67
  refine z_aload_n hX dX1_load_48 rfl (i := 0) rfl ?_
  obtain ⟨a75, f76, v74, r77, m78, e79, hw⟩ := hw
  refine z_get hX zc0 (k := 0) dX1_load_49 (Nat.le_of_ble_eq_true rfl) (zlk hX q307) r77 m78 e79 ?_
  obtain ⟨a81, f82, v80, r83, m84, e85, hw⟩ := hw
  refine z_get hX zc1 (k := 0) dX1_load_52 (Nat.le_of_ble_eq_true rfl) (zlkN hX "PackingDuel" q228) r83 m84 e85 ?_
  obtain ⟨a89, f90, r91, m92, hw⟩ := hw
  refine z_invV hX hd r91 (ci := 2) rfl rfl m92 dX1_load_55 (hC 128 _ zm128 _ _ _ _ hw) q1630 q362 q363 zh5 q364 q134 zn128 rfl (Nat.le_of_ble_eq_true rfl) (st := []) rfl (zcs8 (Nat.le_of_ble_eq_true rfl)) rfl (zkI (fun v86 s87 hw => ?_)) (zoutH hX hR hTt (by decide))
  exact z_ireturn hX hR dX1_load_58 rfl hw
abbrev cX1_query : ByteArray := prog_1_method_59_code
def yX1_query : MethodName := ⟨RX1, "query", "(I)I"⟩
def dkwX1_query_5 : List UInt8 := [21, 4, 172]
abbrev dktX1_query_5 : List UInt8 := dkwX1_query_5 ++ []
def dkwX1_query_4 : List UInt8 := [21, 5, 172, 132, 4, 1, 132, 5, 1, 167, 255, 197, 44, 180, 1, 150, 153, 0, 7, 2, 167, 0, 5]
abbrev dktX1_query_4 : List UInt8 := dkwX1_query_4 ++ dktX1_query_5
def dkwX1_query_3 : List UInt8 := [45, 42, 180, 0, 46, 21, 5, 182, 1, 144, 154, 0, 6, 167, 0, 16, 44, 180, 1, 150, 153, 0, 6]
abbrev dktX1_query_3 : List UInt8 := dkwX1_query_3 ++ dktX1_query_4
def dkwX1_query_2 : List UInt8 := [180, 0, 46, 182, 0, 174, 182, 1, 46, 162, 0, 50, 42, 180, 0, 46, 21, 5, 182, 0, 163, 153, 0, 32]
abbrev dktX1_query_2 : List UInt8 := dkwX1_query_2 ++ dktX1_query_3
def dkwX1_query_1 : List UInt8 := [167, 0, 15, 58, 4, 42, 25, 4, 19, 1, 99, 182, 0, 113, 172, 3, 54, 4, 3, 54, 5, 21, 5, 42]
abbrev dktX1_query_1 : List UInt8 := dkwX1_query_1 ++ dktX1_query_2
def dkwX1_query_0 : List UInt8 := [42, 27, 17, 0, 200, 182, 0, 100, 187, 1, 138, 89, 42, 27, 183, 1, 140, 77, 44, 182, 1, 141, 78]
abbrev dktX1_query_0 : List UInt8 := dkwX1_query_0 ++ dktX1_query_1
theorem dksX1_query_0 : cX1_query.data.toList.drop 0 = dktX1_query_0 := by decide +kernel
theorem dksX1_query_1 : cX1_query.data.toList.drop 23 = dktX1_query_1 := dk_seg dksX1_query_0 23 rfl rfl
theorem dksX1_query_2 : cX1_query.data.toList.drop 47 = dktX1_query_2 := dk_seg dksX1_query_1 24 rfl rfl
theorem dksX1_query_3 : cX1_query.data.toList.drop 71 = dktX1_query_3 := dk_seg dksX1_query_2 24 rfl rfl
theorem dksX1_query_4 : cX1_query.data.toList.drop 94 = dktX1_query_4 := dk_seg dksX1_query_3 23 rfl rfl
theorem dksX1_query_5 : cX1_query.data.toList.drop 117 = dktX1_query_5 := dk_seg dksX1_query_4 23 rfl rfl
theorem dX1_query_0 : decode cX1_query 0 = .ok (.aload_n 0, 1) := dk_42 (dk_at dksX1_query_0 0 rfl rfl)
theorem dX1_query_1 : decode cX1_query 1 = .ok (.iload_n 1, 1) := dk_27 (dk_at dksX1_query_0 1 rfl rfl)
theorem dX1_query_2 : decode cX1_query 2 = .ok (.sipush 200, 3) := dk_17 0 200 (dk_at dksX1_query_0 2 rfl rfl)
theorem dX1_query_5 : decode cX1_query 5 = .ok (.invokevirtual 100, 3) := dk_182 0 100 (dk_at dksX1_query_0 5 rfl rfl)
theorem dX1_query_8 : decode cX1_query 8 = .ok (.new 394, 3) := dk_187 1 138 (dk_at dksX1_query_0 8 rfl rfl)
theorem dX1_query_11 : decode cX1_query 11 = .ok (.dup, 1) := dk_89 (dk_at dksX1_query_0 11 rfl rfl)
theorem dX1_query_12 : decode cX1_query 12 = .ok (.aload_n 0, 1) := dk_42 (dk_at dksX1_query_0 12 rfl rfl)
theorem dX1_query_13 : decode cX1_query 13 = .ok (.iload_n 1, 1) := dk_27 (dk_at dksX1_query_0 13 rfl rfl)
theorem dX1_query_14 : decode cX1_query 14 = .ok (.invokespecial 396, 3) := dk_183 1 140 (dk_at dksX1_query_0 14 rfl rfl)
theorem dX1_query_17 : decode cX1_query 17 = .ok (.astore_n 2, 1) := dk_77 (dk_at dksX1_query_0 17 rfl rfl)
theorem dX1_query_18 : decode cX1_query 18 = .ok (.aload_n 2, 1) := dk_44 (dk_at dksX1_query_0 18 rfl rfl)
theorem dX1_query_19 : decode cX1_query 19 = .ok (.invokevirtual 397, 3) := dk_182 1 141 (dk_at dksX1_query_0 19 rfl rfl)
theorem dX1_query_22 : decode cX1_query 22 = .ok (.astore_n 3, 1) := dk_78 (dk_at dksX1_query_0 22 rfl rfl)
theorem dX1_query_23 : decode cX1_query 23 = .ok (.goto 15, 3) := dk_167 0 15 (dk_at dksX1_query_1 0 rfl rfl)
theorem dX1_query_26 : decode cX1_query 26 = .ok (.astore 4, 2) := dk_58 4 (dk_at dksX1_query_1 3 rfl rfl)
theorem dX1_query_28 : decode cX1_query 28 = .ok (.aload_n 0, 1) := dk_42 (dk_at dksX1_query_1 5 rfl rfl)
theorem dX1_query_29 : decode cX1_query 29 = .ok (.aload 4, 2) := dk_25 4 (dk_at dksX1_query_1 6 rfl rfl)
theorem dX1_query_31 : decode cX1_query 31 = .ok (.ldc_w 355, 3) := dk_19 1 99 (dk_at dksX1_query_1 8 rfl rfl)
theorem dX1_query_34 : decode cX1_query 34 = .ok (.invokevirtual 113, 3) := dk_182 0 113 (dk_at dksX1_query_1 11 rfl rfl)
theorem dX1_query_37 : decode cX1_query 37 = .ok (.ireturn, 1) := dk_172 (dk_at dksX1_query_1 14 rfl rfl)
theorem dX1_query_38 : decode cX1_query 38 = .ok (.iconst 0, 1) := dk_3 (dk_at dksX1_query_1 15 rfl rfl)
theorem dX1_query_39 : decode cX1_query 39 = .ok (.istore 4, 2) := dk_54 4 (dk_at dksX1_query_1 16 rfl rfl)
theorem dX1_query_41 : decode cX1_query 41 = .ok (.iconst 0, 1) := dk_3 (dk_at dksX1_query_1 18 rfl rfl)
theorem dX1_query_42 : decode cX1_query 42 = .ok (.istore 5, 2) := dk_54 5 (dk_at dksX1_query_1 19 rfl rfl)
theorem dX1_query_44 : decode cX1_query 44 = .ok (.iload 5, 2) := dk_21 5 (dk_at dksX1_query_1 21 rfl rfl)
theorem dX1_query_46 : decode cX1_query 46 = .ok (.aload_n 0, 1) := dk_42 (dk_at dksX1_query_1 23 rfl rfl)
theorem dX1_query_47 : decode cX1_query 47 = .ok (.getfield 46, 3) := dk_180 0 46 (dk_at dksX1_query_2 0 rfl rfl)
theorem dX1_query_50 : decode cX1_query 50 = .ok (.invokevirtual 174, 3) := dk_182 0 174 (dk_at dksX1_query_2 3 rfl rfl)
theorem dX1_query_53 : decode cX1_query 53 = .ok (.invokevirtual 302, 3) := dk_182 1 46 (dk_at dksX1_query_2 6 rfl rfl)
theorem dX1_query_56 : decode cX1_query 56 = .ok (.if_icmp .ge 50, 3) := dk_162 0 50 (dk_at dksX1_query_2 9 rfl rfl)
theorem dX1_query_59 : decode cX1_query 59 = .ok (.aload_n 0, 1) := dk_42 (dk_at dksX1_query_2 12 rfl rfl)
theorem dX1_query_60 : decode cX1_query 60 = .ok (.getfield 46, 3) := dk_180 0 46 (dk_at dksX1_query_2 13 rfl rfl)
theorem dX1_query_63 : decode cX1_query 63 = .ok (.iload 5, 2) := dk_21 5 (dk_at dksX1_query_2 16 rfl rfl)
theorem dX1_query_65 : decode cX1_query 65 = .ok (.invokevirtual 163, 3) := dk_182 0 163 (dk_at dksX1_query_2 18 rfl rfl)
theorem dX1_query_68 : decode cX1_query 68 = .ok (.ifCond .eq 32, 3) := dk_153 0 32 (dk_at dksX1_query_2 21 rfl rfl)
theorem dX1_query_71 : decode cX1_query 71 = .ok (.aload_n 3, 1) := dk_45 (dk_at dksX1_query_3 0 rfl rfl)
theorem dX1_query_72 : decode cX1_query 72 = .ok (.aload_n 0, 1) := dk_42 (dk_at dksX1_query_3 1 rfl rfl)
theorem dX1_query_73 : decode cX1_query 73 = .ok (.getfield 46, 3) := dk_180 0 46 (dk_at dksX1_query_3 2 rfl rfl)
theorem dX1_query_76 : decode cX1_query 76 = .ok (.iload 5, 2) := dk_21 5 (dk_at dksX1_query_3 5 rfl rfl)
theorem dX1_query_78 : decode cX1_query 78 = .ok (.invokevirtual 400, 3) := dk_182 1 144 (dk_at dksX1_query_3 7 rfl rfl)
theorem dX1_query_81 : decode cX1_query 81 = .ok (.ifCond .ne 6, 3) := dk_154 0 6 (dk_at dksX1_query_3 10 rfl rfl)
theorem dX1_query_84 : decode cX1_query 84 = .ok (.goto 16, 3) := dk_167 0 16 (dk_at dksX1_query_3 13 rfl rfl)
theorem dX1_query_87 : decode cX1_query 87 = .ok (.aload_n 2, 1) := dk_44 (dk_at dksX1_query_3 16 rfl rfl)
theorem dX1_query_88 : decode cX1_query 88 = .ok (.getfield 406, 3) := dk_180 1 150 (dk_at dksX1_query_3 17 rfl rfl)
theorem dX1_query_91 : decode cX1_query 91 = .ok (.ifCond .eq 6, 3) := dk_153 0 6 (dk_at dksX1_query_3 20 rfl rfl)
theorem dX1_query_94 : decode cX1_query 94 = .ok (.iload 5, 2) := dk_21 5 (dk_at dksX1_query_4 0 rfl rfl)
theorem dX1_query_96 : decode cX1_query 96 = .ok (.ireturn, 1) := dk_172 (dk_at dksX1_query_4 2 rfl rfl)
theorem dX1_query_97 : decode cX1_query 97 = .ok (.iinc 4 1, 3) := dk_132 4 1 (dk_at dksX1_query_4 3 rfl rfl)
theorem dX1_query_100 : decode cX1_query 100 = .ok (.iinc 5 1, 3) := dk_132 5 1 (dk_at dksX1_query_4 6 rfl rfl)
theorem dX1_query_103 : decode cX1_query 103 = .ok (.goto (-59), 3) := dk_167 255 197 (dk_at dksX1_query_4 9 rfl rfl)
theorem dX1_query_106 : decode cX1_query 106 = .ok (.aload_n 2, 1) := dk_44 (dk_at dksX1_query_4 12 rfl rfl)
theorem dX1_query_107 : decode cX1_query 107 = .ok (.getfield 406, 3) := dk_180 1 150 (dk_at dksX1_query_4 13 rfl rfl)
theorem dX1_query_110 : decode cX1_query 110 = .ok (.ifCond .eq 7, 3) := dk_153 0 7 (dk_at dksX1_query_4 16 rfl rfl)
theorem dX1_query_113 : decode cX1_query 113 = .ok (.iconst (-1), 1) := dk_2 (dk_at dksX1_query_4 19 rfl rfl)
theorem dX1_query_114 : decode cX1_query 114 = .ok (.goto 5, 3) := dk_167 0 5 (dk_at dksX1_query_4 20 rfl rfl)
theorem dX1_query_117 : decode cX1_query 117 = .ok (.iload 4, 2) := dk_21 4 (dk_at dksX1_query_5 0 rfl rfl)
theorem dX1_query_119 : decode cX1_query 119 = .ok (.ireturn, 1) := dk_172 (dk_at dksX1_query_5 2 rfl rfl)
/-- PackingDuel.query(I)I -/
def zb79 (G : zPg) (C : zO) (args : List Value) (Q : zQ) (Y : zY) (σ : zS) : Prop := ∃ (a0 : Nat) (x1 : Int32), args = [.ref a0, .int x1] ∧ (zrc σ (some a0) 0 (fun a4 => zcl C 50 [.ref a4, .int x1, .int (200 : Int32)] Y σ (zqV (fun s2 => znew s2 26 [va_rf none, .int 0, .int 0, .int 0, .int 0, .int 0, va_rf none, va_rf none, .int 0, .int 0, va_rf none] 11 (fun s8 => (∃ a14, (some s2.2.1) = some a14 ∧ zcl C 513 [.ref a14, va_rf (some a0), .int x1] Y s8 (zqV (fun s12 => zrc s12 (some s2.2.1) 26 (fun a30 => zcl C 514 [.ref a30] (fun q18 s19 => (∃ f20, s19.1 q18 = some (.inr (11, f20)) ∧ zrc s19 (some a0) 0 (fun a25 => zcl C 52 [.ref a25, va_rf (some q18), .int (-1000000000 : Int32)] Y s19 (zqI (fun v22 s23 => Q (some (.int v22)) s23))))) s12 (zqR (fun v16 s17 => ∃ n, zIt (fun _ _ _ => False) (fun rec37 (p34 : Int32) (p35 : Int32) (s36 : zS) => zgR s36 (some a0) 0 0 (fun v38 => zrc s36 v38 1 (fun a47 => zcl C 83 [.ref a47] Y s36 (zqR (fun v44 s45 => zrc s45 v44 14 (fun a54 => zcl C 452 [.ref a54] Y s45 (zqI (fun v51 s52 => ((v51 ≤ p35) → zgI s52 (some s2.2.1) 26 8 (fun v59 => zJ (fun (p65 : Int32) (s66 : zS) => Q (some (.int p65)) s66) (fun (j67 : Int32 → zS → Prop) => ((v59 = 0) → j67 p34 s52) ∧ ((¬ v59 = 0) → j67 (-1 : Int32) s52)))) ∧ ((¬ v51 ≤ p35) → zgR s52 (some a0) 0 0 (fun v69 => zrc s52 v69 1 (fun a78 => zcl C 84 [.ref a78, .int p35] Y s52 (zqI (fun v75 s76 => zJ (fun (p82 : Int32) (s83 : zS) => (∀ v85 : Int32, v85 = p35 + (1 : Int32) → rec37 p82 v85 s83)) (fun (j84 : Int32 → zS → Prop) => ((v75 = 0) → j84 p34 s76) ∧ ((¬ v75 = 0) → zgR s76 (some a0) 0 0 (fun v88 => zJ (fun (v94 : Int32) (s95 : zS) => ((¬ v94 = 0) → zgI s95 (some s2.2.1) 26 8 (fun v105 => ((v105 = 0) → (∀ v112 : Int32, v112 = p34 + (1 : Int32) → j84 v112 s95)) ∧ ((¬ v105 = 0) → Q (some (.int p35)) s95))) ∧ ((v94 = 0) → j84 p34 s95)) (fun (j97 : Int32 → zS → Prop) => zrcM s76 v16 [27, 28, 29] (fun a98 c99 => (c99 = 27 → zcl C 522 [.ref a98, va_rf v88, .int p35] Y s76 (zqI j97)) ∧ (c99 = 28 → zcl C 524 [.ref a98, va_rf v88, .int p35] Y s76 (zqI j97)) ∧ (c99 = 29 → zcl C 527 [.ref a98, va_rf v88, .int p35] Y s76 (zqI j97)))))))))))))))))))) n (0 : Int32) (0 : Int32) s17)))))))))))
set_option maxHeartbeats 4000000 in
theorem wk79 {l : Launch} {g : zG} {d : Nat} {C : zO} (hG : zGk g) (hC : zSound l g d C) {args : List Value} {Q : zQ} {Y : zY} {σ : zS} (hw : zb79 (zpg g) C args Q Y σ) : zMet l g (d + 1) (⟨"PackingDuel", "query", "(I)I"⟩, Cond.codeWith ⟨"PackingDuel", "query", "(I)I"⟩ prog_1_method_59_code 6 (Option.some FieldType.int) [(18, 23, 26, 93)]) args σ Q Y := by
  obtain ⟨a0, x1, rfl, hw⟩ := hw
  refine zofW hG (by decide +kernel) [false, false] ⟨rfl, rfl, trivial⟩ (Nat.le_of_ble_eq_true rfl) (ls := [some (va_rf (some a0)), some (.int x1), none, none, none, none]) rfl ?_
  intro X hX hR hTt hd1 hd2 hl hg hnm
  subst hl
  subst hg
  have hd : zDep X d := ⟨hd1, hd2⟩
  refine z_aload_n hX dX1_query_0 rfl (i := 0) rfl ?_
  refine z_iload_n hX dX1_query_1 rfl (i := 1) rfl ?_
  refine z_sipush hX (v := (200 : Int32)) dX1_query_2 (by decide) ?_
  obtain ⟨a4, f5, r6, m7, hw⟩ := hw
  refine z_invV hX hd r6 (ci := 0) rfl rfl m7 dX1_query_5 (hC 50 _ zm50 _ _ _ _ hw) q1062 q1064 qs18 zh1 q1065 q130 zn50 rfl (Nat.le_of_ble_eq_true rfl) (st := []) rfl (zcs8 (Nat.le_of_ble_eq_true rfl)) rfl (zkV (fun s2 hw => ?_)) (zoutH hX hR hTt (by decide))
  refine z_new hX zc26 dX1_query_8 q2191 q2192 q180 (fs := [va_rf none, .int 0, .int 0, .int 0, .int 0, .int 0, va_rf none, va_rf none, .int 0, .int 0, va_rf none]) (fun j hj => by have hj : j < 11 := hj; exact zdf26 j hj) hw.1 hw.2.1 (fun z9 => z_nm (fun s8 e10 => ?_))
  have hw := hw.2.2 z9 s8 e10
  refine z_dup hX dX1_query_11 (zc_rf _) ?_
  refine z_aload_n hX dX1_query_12 rfl (i := 0) rfl ?_
  refine z_iload_n hX dX1_query_13 rfl (i := 1) rfl ?_
  obtain ⟨a14, r15, hw⟩ := hw
  refine z_invI hX hd r15 dX1_query_14 (hC 513 _ zm513 _ _ _ _ hw) q2193 q2194 rfl zh47 q2195 q180 zn513 rfl (Nat.le_of_ble_eq_true rfl) (st := [va_rf (some s2.2.1)]) rfl (zcs8 (Nat.le_of_ble_eq_true rfl)) rfl (zkV (fun s12 hw => ?_)) (zoutH hX hR hTt (by decide))
  refine z_astore_n hX dX1_query_17 rfl (i := 2) (Nat.le_of_ble_eq_true rfl) rfl (ls2 := [some (va_rf (some a0)), some (.int x1), some (va_rf (some s2.2.1)), none, none, none]) rfl ?_
  refine z_aload_n hX dX1_query_18 rfl (i := 2) rfl ?_
  obtain ⟨a30, f31, r32, m33, hw⟩ := hw
  refine z_invV hX hd r32 (ci := 26) rfl rfl m33 dX1_query_19 (hC 514 _ zm514 _ _ _ _ hw) q2216 q2217 q2218 zh47 q2219 q180 zn514 rfl (Nat.le_of_ble_eq_true rfl) (st := []) rfl (zcs8 (Nat.le_of_ble_eq_true rfl)) rfl (zkR (fun v16 s17 hw => ?_)) (fun q18 s19 hw => by obtain ⟨f20, m21, hw⟩ := hw; refine z_catch hX [] ⟨18, 23, 26, 93⟩ [] (by rw [hTt]; rfl) (fun _ h => by cases h) (by decide) (by decide) q1061 (Or.inl rfl) (ci := 11) rfl rfl m21 ?_; show zW X s19 26 _ _; refine z_astore hX dX1_query_26 (i := 4) (Nat.le_of_ble_eq_true rfl) trivial (ls2 := [some (va_rf (some a0)), some (.int x1), some (va_rf (some s2.2.1)), none, some (va_rf (some q18)), none]) rfl ?_; refine z_aload_n hX dX1_query_28 rfl (i := 0) rfl ?_; refine z_aload hX dX1_query_29 (i := 4) rfl ?_; refine z_ldcw hX dX1_query_31 q2162 ?_; obtain ⟨a25, f26, r27, m28, hw⟩ := hw; refine z_invV hX hd r27 (ci := 0) rfl rfl m28 dX1_query_34 (hC 52 _ zm52 _ _ _ _ hw) q1626 q1628 qs24 zh1 q1629 q130 zn52 rfl (Nat.le_of_ble_eq_true rfl) (st := []) rfl (zcs8 (Nat.le_of_ble_eq_true rfl)) rfl (zkI (fun v22 s23 hw => ?_)) (zoutH hX hR hTt (by decide)); exact z_ireturn hX hR dX1_query_37 rfl hw)
  refine z_astore_n hX dX1_query_22 rfl (i := 3) (Nat.le_of_ble_eq_true rfl) (zc_rf _) (ls2 := [some (va_rf (some a0)), some (.int x1), some (va_rf (some s2.2.1)), some (va_rf v16), none, none]) rfl ?_
  refine z_goto hX dX1_query_23 (tgt := 38) rfl ?_
  refine z_iconst hX (v := (0 : Int32)) dX1_query_38 (by decide) ?_
  refine z_istore hX dX1_query_39 (i := 4) (Nat.le_of_ble_eq_true rfl) (zc_rf _) (ls2 := [some (va_rf (some a0)), some (.int x1), some (va_rf (some s2.2.1)), some (va_rf v16), some (.int (0 : Int32)), none]) rfl ?_
  refine z_iconst hX (v := (0 : Int32)) dX1_query_41 (by decide) ?_
  refine z_istore hX dX1_query_42 (i := 5) (Nat.le_of_ble_eq_true rfl) rfl (ls2 := [some (va_rf (some a0)), some (.int x1), some (va_rf (some s2.2.1)), some (va_rf v16), some (.int (0 : Int32)), some (.int (0 : Int32))]) rfl ?_
  obtain ⟨n114, hw⟩ := hw
  refine z_sub (ls' := [some (va_rf (some a0)), none, some (va_rf (some s2.2.1)), some (va_rf v16), some (.int (0 : Int32)), some (.int (0 : Int32))]) (zsS (zsN (zsS (zsS (zsS (zsS (zs0))))))) ?_
  refine zIt_w (P := fun (j : Int32 → Int32 → zS → Prop) => ∀ (p34 : Int32) (p35 : Int32) (s36 : zS), j p34 p35 s36 → zW X s36 44 [some (va_rf (some a0)), none, some (va_rf (some s2.2.1)), some (va_rf v16), some (.int p34), some (.int p35)] []) (fun _ _ _ h => h.elim) (fun rec37 hrec37 p34 p35 s36 hw => ?_) n114 _ _ _ hw
  refine z_iload hX dX1_query_44 (i := 5) rfl ?_
  refine z_aload_n hX dX1_query_46 rfl (i := 0) rfl ?_
  obtain ⟨a39, f40, v38, r41, m42, e43, hw⟩ := hw
  refine z_get hX zc0 (k := 0) dX1_query_47 (Nat.le_of_ble_eq_true rfl) (zlk hX q307) r41 m42 e43 ?_
  obtain ⟨a47, f48, r49, m50, hw⟩ := hw
  refine z_invV hX hd r49 (ci := 1) rfl rfl m50 dX1_query_50 (hC 83 _ zm83 _ _ _ _ hw) q734 q352 q353 zh2 q354 q131 zn83 rfl (Nat.le_of_ble_eq_true rfl) (st := [.int p35]) rfl (zcs8 (Nat.le_of_ble_eq_true rfl)) rfl (zkR (fun v44 s45 hw => ?_)) (zoutH hX hR hTt (by decide))
  obtain ⟨a54, f55, r56, m57, hw⟩ := hw
  refine z_invV hX hd r56 (ci := 14) rfl rfl m57 dX1_query_53 (hC 452 _ zm452 _ _ _ _ hw) q735 q396 q397 zh30 q398 q161 zn452 rfl (Nat.le_of_ble_eq_true rfl) (st := [.int p35]) rfl (zcs8 (Nat.le_of_ble_eq_true rfl)) rfl (zkI (fun v51 s52 hw => ?_)) (zoutH hX hR hTt (by decide))
  refine z_icmp_ge hX dX1_query_56 (tgt := 106) rfl (fun c58 => ?_) (fun c58 => ?_)
  · have hw := hw.1 c58
    refine z_aload_n hX dX1_query_106 rfl (i := 2) rfl ?_
    obtain ⟨a60, f61, v59, r62, m63, e64, hw⟩ := hw
    refine z_get hX zc26 (k := 8) dX1_query_107 (Nat.le_of_ble_eq_true rfl) (zlkN hX "PackingDuel" q2198) r62 m63 e64 ?_
    refine zJ_w (P := fun (j : Int32 → zS → Prop) => ∀ (p65 : Int32) (s66 : zS), j p65 s66 → zW X s66 119 [none, none, none, none, none, none] [.int p65]) hw (fun p65 s66 hw => ?_) (fun j67 hj67 hw => ?_)
    · exact z_ireturn hX hR dX1_query_119 rfl hw
    · refine z_if_eq hX dX1_query_110 (tgt := 117) rfl (fun c68 => ?_) (fun c68 => ?_)
      · have hw := hw.1 c68
        refine z_iload hX dX1_query_117 (i := 4) rfl ?_
        refine z_sub (ls' := [none, none, none, none, none, none]) (zsN (zsN (zsN (zsN (zsN (zsN (zs0))))))) ?_
        exact hj67 _ _ hw
      · have hw := hw.2 c68
        refine z_iconst hX (v := (-1 : Int32)) dX1_query_113 (by decide) ?_
        refine z_goto hX dX1_query_114 (tgt := 119) rfl ?_
        refine z_sub (ls' := [none, none, none, none, none, none]) (zsN (zsN (zsN (zsN (zsN (zsN (zs0))))))) ?_
        exact hj67 _ _ hw
  · have hw := hw.2 c58
    refine z_aload_n hX dX1_query_59 rfl (i := 0) rfl ?_
    obtain ⟨a70, f71, v69, r72, m73, e74, hw⟩ := hw
    refine z_get hX zc0 (k := 0) dX1_query_60 (Nat.le_of_ble_eq_true rfl) (zlk hX q307) r72 m73 e74 ?_
    refine z_iload hX dX1_query_63 (i := 5) rfl ?_
    obtain ⟨a78, f79, r80, m81, hw⟩ := hw
    refine z_invV hX hd r80 (ci := 1) rfl rfl m81 dX1_query_65 (hC 84 _ zm84 _ _ _ _ hw) q736 q400 q401 zh2 q402 q131 zn84 rfl (Nat.le_of_ble_eq_true rfl) (st := []) rfl (zcs8 (Nat.le_of_ble_eq_true rfl)) rfl (zkI (fun v75 s76 hw => ?_)) (zoutH hX hR hTt (by decide))
    refine zJ_w (P := fun (j : Int32 → zS → Prop) => ∀ (p82 : Int32) (s83 : zS), j p82 s83 → zW X s83 100 [some (va_rf (some a0)), none, some (va_rf (some s2.2.1)), some (va_rf v16), some (.int p82), some (.int p35)] []) hw (fun p82 s83 hw => ?_) (fun j84 hj84 hw => ?_)
    · obtain ⟨v85, e86⟩ : ∃ y : Int32, y = p35 + (1 : Int32) := ⟨_, rfl⟩
      refine z_iinc hX dX1_query_100 (i := 5) (v := v85) rfl (by rw [e86]; rfl) (Nat.le_of_ble_eq_true rfl) rfl (ls2 := [some (va_rf (some a0)), none, some (va_rf (some s2.2.1)), some (va_rf v16), some (.int p82), some (.int v85)]) rfl ?_
      have hw := hw v85 e86
      refine z_goto hX dX1_query_103 (tgt := 44) rfl ?_
      exact hrec37 _ _ _ hw
    · refine z_if_eq hX dX1_query_68 (tgt := 100) rfl (fun c87 => ?_) (fun c87 => ?_)
      · have hw := hw.1 c87
        exact hj84 _ _ hw
      · have hw := hw.2 c87
        refine z_aload_n hX dX1_query_71 rfl (i := 3) rfl ?_
        refine z_aload_n hX dX1_query_72 rfl (i := 0) rfl ?_
        obtain ⟨a89, f90, v88, r91, m92, e93, hw⟩ := hw
        refine z_get hX zc0 (k := 0) dX1_query_73 (Nat.le_of_ble_eq_true rfl) (zlk hX q307) r91 m92 e93 ?_
        refine z_iload hX dX1_query_76 (i := 5) rfl ?_
        refine zJ_v (P := fun (j : Int32 → zS → Prop) => ∀ (v94 : Int32) (s95 : zS), j v94 s95 → zW X s95 81 [some (va_rf (some a0)), none, some (va_rf (some s2.2.1)), some (va_rf v16), some (.int p34), some (.int p35)] [.int v94]) hw (fun j97 hj97 hw => ?_) (fun v94 s95 hw => ?_)
        · obtain ⟨a98, c99, f100, r101, h102, m103, hw⟩ := hw
          simp only [List.mem_cons, List.not_mem_nil, or_false] at h102
          rcases h102 with rfl | rfl | rfl
          · have hw := hw.1 rfl
            refine z_invVU hX hd r101 (ci := 27) rfl rfl m103 dX1_query_78 (hC 522 _ zm522 _ _ _ _ hw) q2391 q2393 (z_declA hX q2392) q2445 q2448 zh48 q2446 q182 (zn522) rfl (Nat.le_of_ble_eq_true rfl) (st := []) rfl (zcs8 (Nat.le_of_ble_eq_true rfl)) rfl (zkI (fun v94 s95 hw => ?_)) (zoutH hX hR hTt (by decide))
            exact hj97 _ _ hw
          · have hw := hw.2.1 rfl
            refine z_invVU hX hd r101 (ci := 28) rfl rfl m103 dX1_query_78 (hC 524 _ zm524 _ _ _ _ hw) q2391 q2393 (z_declA hX q2392) q2395 q2394 zh48 q2396 q183 (zn524) rfl (Nat.le_of_ble_eq_true rfl) (st := []) rfl (zcs8 (Nat.le_of_ble_eq_true rfl)) rfl (zkI (fun v94 s95 hw => ?_)) (zoutH hX hR hTt (by decide))
            exact hj97 _ _ hw
          · have hw := hw.2.2 rfl
            refine z_invVU hX hd r101 (ci := 29) rfl rfl m103 dX1_query_78 (hC 527 _ zm527 _ _ _ _ hw) q2391 q2393 (z_declA hX q2392) q2439 q2438 zh48 q2440 q184 (zn527) rfl (Nat.le_of_ble_eq_true rfl) (st := []) rfl (zcs8 (Nat.le_of_ble_eq_true rfl)) rfl (zkI (fun v94 s95 hw => ?_)) (zoutH hX hR hTt (by decide))
            exact hj97 _ _ hw
        refine z_if_ne hX dX1_query_81 (tgt := 87) rfl (fun c104 => ?_) (fun c104 => ?_)
        · have hw := hw.1 c104
          refine z_aload_n hX dX1_query_87 rfl (i := 2) rfl ?_
          obtain ⟨a106, f107, v105, r108, m109, e110, hw⟩ := hw
          refine z_get hX zc26 (k := 8) dX1_query_88 (Nat.le_of_ble_eq_true rfl) (zlkN hX "PackingDuel" q2198) r108 m109 e110 ?_
          refine z_if_eq hX dX1_query_91 (tgt := 97) rfl (fun c111 => ?_) (fun c111 => ?_)
          · have hw := hw.1 c111
            obtain ⟨v112, e113⟩ : ∃ y : Int32, y = p34 + (1 : Int32) := ⟨_, rfl⟩
            refine z_iinc hX dX1_query_97 (i := 4) (v := v112) rfl (by rw [e113]; rfl) (Nat.le_of_ble_eq_true rfl) (zc_rf _) (ls2 := [some (va_rf (some a0)), none, some (va_rf (some s2.2.1)), some (va_rf v16), some (.int v112), some (.int p35)]) rfl ?_
            have hw := hw v112 e113
            exact hj84 _ _ hw
          · have hw := hw.2 c111
            refine z_iload hX dX1_query_94 (i := 5) rfl ?_
            exact z_ireturn hX hR dX1_query_96 rfl hw
        · have hw := hw.2 c104
          refine z_goto hX dX1_query_84 (tgt := 100) rfl ?_
          exact hj84 _ _ hw
abbrev cX5_member : ByteArray := prog_5_method_5_code
def yX5_member : MethodName := ⟨RX5, "member", "(II)I"⟩
def dkwX5_member_0 : List UInt8 := [42, 27, 28, 182, 0, 125, 172, 78, 42, 45, 182, 0, 132, 191]
abbrev dktX5_member_0 : List UInt8 := dkwX5_member_0 ++ []
theorem dksX5_member_0 : cX5_member.data.toList.drop 0 = dktX5_member_0 := by decide +kernel
theorem dX5_member_0 : decode cX5_member 0 = .ok (.aload_n 0, 1) := dk_42 (dk_at dksX5_member_0 0 rfl rfl)
theorem dX5_member_1 : decode cX5_member 1 = .ok (.iload_n 1, 1) := dk_27 (dk_at dksX5_member_0 1 rfl rfl)
theorem dX5_member_2 : decode cX5_member 2 = .ok (.iload_n 2, 1) := dk_28 (dk_at dksX5_member_0 2 rfl rfl)
theorem dX5_member_3 : decode cX5_member 3 = .ok (.invokevirtual 125, 3) := dk_182 0 125 (dk_at dksX5_member_0 3 rfl rfl)
theorem dX5_member_6 : decode cX5_member 6 = .ok (.ireturn, 1) := dk_172 (dk_at dksX5_member_0 6 rfl rfl)
theorem dX5_member_7 : decode cX5_member 7 = .ok (.astore_n 3, 1) := dk_78 (dk_at dksX5_member_0 7 rfl rfl)
theorem dX5_member_8 : decode cX5_member 8 = .ok (.aload_n 0, 1) := dk_42 (dk_at dksX5_member_0 8 rfl rfl)
theorem dX5_member_9 : decode cX5_member 9 = .ok (.aload_n 3, 1) := dk_45 (dk_at dksX5_member_0 9 rfl rfl)
theorem dX5_member_10 : decode cX5_member 10 = .ok (.invokevirtual 132, 3) := dk_182 0 132 (dk_at dksX5_member_0 10 rfl rfl)
theorem dX5_member_13 : decode cX5_member 13 = .ok (.athrow, 1) := dk_191 (dk_at dksX5_member_0 13 rfl rfl)
/-- PackingDuel$DuelParser.member(II)I -/
def zb328 (G : zPg) (C : zO) (args : List Value) (Q : zQ) (Y : zY) (σ : zS) : Prop := ∃ (a0 : Nat) (x1 : Int32) (x2 : Int32), args = [.ref a0, .int x1, .int x2] ∧ (zrc σ (some a0) 7 (fun a28 => zcl C 329 [.ref a28, .int x1, .int x2] (fun q3 s4 => (∃ f5, s4.1 q3 = some (.inr (13, f5)) ∧ zrc s4 (some a0) 7 (fun a10 => zcl C 330 [.ref a10, va_rf (some q3)] Y s4 (zqR (fun v7 s8 => ∃ q14, v7 = some q14 ∧ Y q14 s8)))) ∨ (∃ f16, s4.1 q3 = some (.inr (15, f16)) ∧ zrc s4 (some a0) 7 (fun a21 => zcl C 330 [.ref a21, va_rf (some q3)] Y s4 (zqR (fun v18 s19 => ∃ q25, v18 = some q25 ∧ Y q25 s19))))) σ (zqI (fun v1 s2 => Q (some (.int v1)) s2))))
set_option maxHeartbeats 4000000 in
theorem wk328 {l : Launch} {g : zG} {d : Nat} {C : zO} (hG : zGk g) (hC : zSound l g d C) {args : List Value} {Q : zQ} {Y : zY} {σ : zS} (hw : zb328 (zpg g) C args Q Y σ) : zMet l g (d + 1) (⟨"PackingDuel$DuelParser", "member", "(II)I"⟩, Cond.codeWith ⟨"PackingDuel$DuelParser", "member", "(II)I"⟩ prog_5_method_5_code 4 (Option.some FieldType.int) [(0, 6, 7, 128), (0, 6, 7, 130)]) args σ Q Y := by
  obtain ⟨a0, x1, x2, rfl, hw⟩ := hw
  refine zofW hG (by decide +kernel) [false, false, false] ⟨rfl, rfl, rfl, trivial⟩ (Nat.le_of_ble_eq_true rfl) (ls := [some (va_rf (some a0)), some (.int x1), some (.int x2), none]) rfl ?_
  intro X hX hR hTt hd1 hd2 hl hg hnm
  subst hl
  subst hg
  have hd : zDep X d := ⟨hd1, hd2⟩
  refine z_aload_n hX dX5_member_0 rfl (i := 0) rfl ?_
  refine z_iload_n hX dX5_member_1 rfl (i := 1) rfl ?_
  refine z_iload_n hX dX5_member_2 rfl (i := 2) rfl ?_
  obtain ⟨a28, f29, r30, m31, hw⟩ := hw
  refine z_invV hX hd r30 (ci := 7) rfl rfl m31 dX5_member_3 (hC 329 _ zm329 _ _ _ _ hw) q1546 q1548 qs22 zh14 q1549 q143 zn329 rfl (Nat.le_of_ble_eq_true rfl) (st := []) rfl (zcs8 (Nat.le_of_ble_eq_true rfl)) rfl (zkI (fun v1 s2 hw => ?_)) (fun q3 s4 hw => hw.elim (fun hw => by obtain ⟨f5, m6, hw⟩ := hw; refine z_catch hX [] ⟨0, 6, 7, 128⟩ [⟨0, 6, 7, 130⟩] (by rw [hTt]; rfl) (fun _ h => by cases h) (by decide) (by decide) q1544 (Or.inl rfl) (ci := 13) rfl rfl m6 ?_; show zW X s4 7 _ _; refine z_astore_n hX dX5_member_7 rfl (i := 3) (Nat.le_of_ble_eq_true rfl) rfl (ls2 := [some (va_rf (some a0)), some (.int x1), some (.int x2), some (va_rf (some q3))]) rfl ?_; refine z_aload_n hX dX5_member_8 rfl (i := 0) rfl ?_; refine z_aload_n hX dX5_member_9 rfl (i := 3) rfl ?_; obtain ⟨a10, f11, r12, m13, hw⟩ := hw; refine z_invV hX hd r12 (ci := 7) rfl rfl m13 dX5_member_10 (hC 330 _ zm330 _ _ _ _ hw) q1584 q1586 qs23 zh14 q1587 q143 zn330 rfl (Nat.le_of_ble_eq_true rfl) (st := []) rfl (zcs8 (Nat.le_of_ble_eq_true rfl)) rfl (zkR (fun v7 s8 hw => ?_)) (zoutH hX hR hTt (by decide)); obtain ⟨q14, r15, hw⟩ := hw; exact z_athrow hX dX5_member_13 r15 ((zoutH hX hR hTt (by decide)) _ _ hw)) (fun hw => by obtain ⟨f16, m17, hw⟩ := hw; refine z_catch hX [⟨0, 6, 7, 128⟩] ⟨0, 6, 7, 130⟩ [] (by rw [hTt]; rfl) (fun z hz => by rw [List.mem_singleton.mp hz]; exact Or.inr ⟨by decide, "PackingDuel$TwiceError", hX.2.2.2.2.1 _ q1544, va_Nc.moved hX.2.2.2.2.2.1.alike hX.2.2.2.2.2.2.1.2.2.2.2.2.2.1⟩) (by decide) (by decide) q1545 (Or.inl rfl) (ci := 15) rfl rfl m17 ?_; show zW X s4 7 _ _; refine z_astore_n hX dX5_member_7 rfl (i := 3) (Nat.le_of_ble_eq_true rfl) rfl (ls2 := [some (va_rf (some a0)), some (.int x1), some (.int x2), some (va_rf (some q3))]) rfl ?_; refine z_aload_n hX dX5_member_8 rfl (i := 0) rfl ?_; refine z_aload_n hX dX5_member_9 rfl (i := 3) rfl ?_; obtain ⟨a21, f22, r23, m24, hw⟩ := hw; refine z_invV hX hd r23 (ci := 7) rfl rfl m24 dX5_member_10 (hC 330 _ zm330 _ _ _ _ hw) q1584 q1586 qs23 zh14 q1587 q143 zn330 rfl (Nat.le_of_ble_eq_true rfl) (st := []) rfl (zcs8 (Nat.le_of_ble_eq_true rfl)) rfl (zkR (fun v18 s19 hw => ?_)) (zoutH hX hR hTt (by decide)); obtain ⟨q25, r26, hw⟩ := hw; exact z_athrow hX dX5_member_13 r26 ((zoutH hX hR hTt (by decide)) _ _ hw)))
  exact z_ireturn hX hR dX5_member_6 rfl hw
abbrev cX5_list : ByteArray := prog_5_method_4_code
def yX5_list : MethodName := ⟨RX5, "list", "(Z)V"⟩
def dkwX5_list_4 : List UInt8 := [87, 177]
abbrev dktX5_list_4 : List UInt8 := dkwX5_list_4 ++ []
def dkwX5_list_3 : List UInt8 := [167, 255, 219, 42, 16, 59, 182, 0, 51, 42, 180, 0, 20, 27, 182, 0, 107, 28, 184, 0, 119, 182, 0, 104]
abbrev dktX5_list_3 : List UInt8 := dkwX5_list_3 ++ dktX5_list_4
def dkwX5_list_2 : List UInt8 := [180, 0, 20, 180, 0, 86, 182, 0, 90, 4, 100, 182, 0, 113, 182, 0, 116, 61, 42, 182, 0, 96]
abbrev dktX5_list_2 : List UInt8 := dkwX5_list_2 ++ dktX5_list_3
def dkwX5_list_1 : List UInt8 := [182, 0, 30, 42, 182, 0, 96, 3, 61, 42, 180, 0, 77, 178, 0, 110, 166, 0, 33, 42, 28, 42, 3, 42]
abbrev dktX5_list_1 : List UInt8 := dkwX5_list_1 ++ dktX5_list_2
def dkwX5_list_0 : List UInt8 := [42, 42, 180, 0, 20, 27, 182, 0, 107, 182, 0, 90, 8, 162, 0, 7, 4, 167, 0, 4, 3, 6]
abbrev dktX5_list_0 : List UInt8 := dkwX5_list_0 ++ dktX5_list_1
theorem dksX5_list_0 : cX5_list.data.toList.drop 0 = dktX5_list_0 := by decide +kernel
theorem dksX5_list_1 : cX5_list.data.toList.drop 22 = dktX5_list_1 := dk_seg dksX5_list_0 22 rfl rfl
theorem dksX5_list_2 : cX5_list.data.toList.drop 46 = dktX5_list_2 := dk_seg dksX5_list_1 24 rfl rfl
theorem dksX5_list_3 : cX5_list.data.toList.drop 68 = dktX5_list_3 := dk_seg dksX5_list_2 22 rfl rfl
theorem dksX5_list_4 : cX5_list.data.toList.drop 92 = dktX5_list_4 := dk_seg dksX5_list_3 24 rfl rfl
theorem dX5_list_0 : decode cX5_list 0 = .ok (.aload_n 0, 1) := dk_42 (dk_at dksX5_list_0 0 rfl rfl)
theorem dX5_list_1 : decode cX5_list 1 = .ok (.aload_n 0, 1) := dk_42 (dk_at dksX5_list_0 1 rfl rfl)
theorem dX5_list_2 : decode cX5_list 2 = .ok (.getfield 20, 3) := dk_180 0 20 (dk_at dksX5_list_0 2 rfl rfl)
theorem dX5_list_5 : decode cX5_list 5 = .ok (.iload_n 1, 1) := dk_27 (dk_at dksX5_list_0 5 rfl rfl)
theorem dX5_list_6 : decode cX5_list 6 = .ok (.invokevirtual 107, 3) := dk_182 0 107 (dk_at dksX5_list_0 6 rfl rfl)
theorem dX5_list_9 : decode cX5_list 9 = .ok (.invokevirtual 90, 3) := dk_182 0 90 (dk_at dksX5_list_0 9 rfl rfl)
theorem dX5_list_12 : decode cX5_list 12 = .ok (.iconst 5, 1) := dk_8 (dk_at dksX5_list_0 12 rfl rfl)
theorem dX5_list_13 : decode cX5_list 13 = .ok (.if_icmp .ge 7, 3) := dk_162 0 7 (dk_at dksX5_list_0 13 rfl rfl)
theorem dX5_list_16 : decode cX5_list 16 = .ok (.iconst 1, 1) := dk_4 (dk_at dksX5_list_0 16 rfl rfl)
theorem dX5_list_17 : decode cX5_list 17 = .ok (.goto 4, 3) := dk_167 0 4 (dk_at dksX5_list_0 17 rfl rfl)
theorem dX5_list_20 : decode cX5_list 20 = .ok (.iconst 0, 1) := dk_3 (dk_at dksX5_list_0 20 rfl rfl)
theorem dX5_list_21 : decode cX5_list 21 = .ok (.iconst 3, 1) := dk_6 (dk_at dksX5_list_0 21 rfl rfl)
theorem dX5_list_22 : decode cX5_list 22 = .ok (.invokevirtual 30, 3) := dk_182 0 30 (dk_at dksX5_list_1 0 rfl rfl)
theorem dX5_list_25 : decode cX5_list 25 = .ok (.aload_n 0, 1) := dk_42 (dk_at dksX5_list_1 3 rfl rfl)
theorem dX5_list_26 : decode cX5_list 26 = .ok (.invokevirtual 96, 3) := dk_182 0 96 (dk_at dksX5_list_1 4 rfl rfl)
theorem dX5_list_29 : decode cX5_list 29 = .ok (.iconst 0, 1) := dk_3 (dk_at dksX5_list_1 7 rfl rfl)
theorem dX5_list_30 : decode cX5_list 30 = .ok (.istore_n 2, 1) := dk_61 (dk_at dksX5_list_1 8 rfl rfl)
theorem dX5_list_31 : decode cX5_list 31 = .ok (.aload_n 0, 1) := dk_42 (dk_at dksX5_list_1 9 rfl rfl)
theorem dX5_list_32 : decode cX5_list 32 = .ok (.getfield 77, 3) := dk_180 0 77 (dk_at dksX5_list_1 10 rfl rfl)
theorem dX5_list_35 : decode cX5_list 35 = .ok (.getstatic 110, 3) := dk_178 0 110 (dk_at dksX5_list_1 13 rfl rfl)
theorem dX5_list_38 : decode cX5_list 38 = .ok (.if_acmp .ne 33, 3) := dk_166 0 33 (dk_at dksX5_list_1 16 rfl rfl)
theorem dX5_list_41 : decode cX5_list 41 = .ok (.aload_n 0, 1) := dk_42 (dk_at dksX5_list_1 19 rfl rfl)
theorem dX5_list_42 : decode cX5_list 42 = .ok (.iload_n 2, 1) := dk_28 (dk_at dksX5_list_1 20 rfl rfl)
theorem dX5_list_43 : decode cX5_list 43 = .ok (.aload_n 0, 1) := dk_42 (dk_at dksX5_list_1 21 rfl rfl)
theorem dX5_list_44 : decode cX5_list 44 = .ok (.iconst 0, 1) := dk_3 (dk_at dksX5_list_1 22 rfl rfl)
theorem dX5_list_45 : decode cX5_list 45 = .ok (.aload_n 0, 1) := dk_42 (dk_at dksX5_list_1 23 rfl rfl)
theorem dX5_list_46 : decode cX5_list 46 = .ok (.getfield 20, 3) := dk_180 0 20 (dk_at dksX5_list_2 0 rfl rfl)
theorem dX5_list_49 : decode cX5_list 49 = .ok (.getfield 86, 3) := dk_180 0 86 (dk_at dksX5_list_2 3 rfl rfl)
theorem dX5_list_52 : decode cX5_list 52 = .ok (.invokevirtual 90, 3) := dk_182 0 90 (dk_at dksX5_list_2 6 rfl rfl)
theorem dX5_list_55 : decode cX5_list 55 = .ok (.iconst 1, 1) := dk_4 (dk_at dksX5_list_2 9 rfl rfl)
theorem dX5_list_56 : decode cX5_list 56 = .ok (.isub, 1) := dk_100 (dk_at dksX5_list_2 10 rfl rfl)
theorem dX5_list_57 : decode cX5_list 57 = .ok (.invokevirtual 113, 3) := dk_182 0 113 (dk_at dksX5_list_2 11 rfl rfl)
theorem dX5_list_60 : decode cX5_list 60 = .ok (.invokevirtual 116, 3) := dk_182 0 116 (dk_at dksX5_list_2 14 rfl rfl)
theorem dX5_list_63 : decode cX5_list 63 = .ok (.istore_n 2, 1) := dk_61 (dk_at dksX5_list_2 17 rfl rfl)
theorem dX5_list_64 : decode cX5_list 64 = .ok (.aload_n 0, 1) := dk_42 (dk_at dksX5_list_2 18 rfl rfl)
theorem dX5_list_65 : decode cX5_list 65 = .ok (.invokevirtual 96, 3) := dk_182 0 96 (dk_at dksX5_list_2 19 rfl rfl)
theorem dX5_list_68 : decode cX5_list 68 = .ok (.goto (-37), 3) := dk_167 255 219 (dk_at dksX5_list_3 0 rfl rfl)
theorem dX5_list_71 : decode cX5_list 71 = .ok (.aload_n 0, 1) := dk_42 (dk_at dksX5_list_3 3 rfl rfl)
theorem dX5_list_72 : decode cX5_list 72 = .ok (.bipush 59, 2) := dk_16 59 (dk_at dksX5_list_3 4 rfl rfl)
theorem dX5_list_74 : decode cX5_list 74 = .ok (.invokevirtual 51, 3) := dk_182 0 51 (dk_at dksX5_list_3 6 rfl rfl)
theorem dX5_list_77 : decode cX5_list 77 = .ok (.aload_n 0, 1) := dk_42 (dk_at dksX5_list_3 9 rfl rfl)
theorem dX5_list_78 : decode cX5_list 78 = .ok (.getfield 20, 3) := dk_180 0 20 (dk_at dksX5_list_3 10 rfl rfl)
theorem dX5_list_81 : decode cX5_list 81 = .ok (.iload_n 1, 1) := dk_27 (dk_at dksX5_list_3 13 rfl rfl)
theorem dX5_list_82 : decode cX5_list 82 = .ok (.invokevirtual 107, 3) := dk_182 0 107 (dk_at dksX5_list_3 14 rfl rfl)
theorem dX5_list_85 : decode cX5_list 85 = .ok (.iload_n 2, 1) := dk_28 (dk_at dksX5_list_3 17 rfl rfl)
theorem dX5_list_86 : decode cX5_list 86 = .ok (.invokestatic 119, 3) := dk_184 0 119 (dk_at dksX5_list_3 18 rfl rfl)
theorem dX5_list_89 : decode cX5_list 89 = .ok (.invokevirtual 104, 3) := dk_182 0 104 (dk_at dksX5_list_3 21 rfl rfl)
theorem dX5_list_92 : decode cX5_list 92 = .ok (.pop, 1) := dk_87 (dk_at dksX5_list_4 0 rfl rfl)
theorem dX5_list_93 : decode cX5_list 93 = .ok (.return_, 1) := dk_177 (dk_at dksX5_list_4 1 rfl rfl)
/-- PackingDuel$DuelParser.list(Z)V -/
def zb327 (G : zPg) (C : zO) (args : List Value) (Q : zQ) (Y : zY) (σ : zS) : Prop := ∃ (a0 : Nat) (x1 : Int32), args = [.ref a0, .int x1] ∧ (zgR σ (some a0) 7 8 (fun v1 => zrc σ v1 1 (fun a10 => zcl C 108 [.ref a10, .int x1] Y σ (zqR (fun v7 s8 => zrc s8 v7 2 (fun a17 => zcl C 128 [.ref a17] Y s8 (zqI (fun v14 s15 => zJ (fun (p21 : Int32) (s22 : zS) => zrc s22 (some a0) 7 (fun a27 => zcl C 317 [.ref a27, .int p21, .int (3 : Int32)] Y s22 (zqV (fun s25 => zrc s25 (some a0) 7 (fun a34 => zcl C 311 [.ref a34] Y s25 (zqV (fun s32 => ∃ n, zIt (fun _ _ => False) (fun rec40 (p38 : Int32) (s39 : zS) => zgR s39 (some a0) 7 6 (fun v41 => ((¬ v41 = (some (G.2 51))) → zrc s39 (some a0) 7 (fun a51 => zcl C 320 [.ref a51, .int (59 : Int32)] Y s39 (zqV (fun s49 => zgR s49 (some a0) 7 8 (fun v55 => zrc s49 v55 1 (fun a64 => zcl C 108 [.ref a64, .int x1] Y s49 (zqR (fun v61 s62 => zcl C 436 [.int p38] Y s62 (zqR (fun v68 s69 => zrc s69 v61 2 (fun a74 => zcl C 131 [.ref a74, va_rf v68] Y s69 (zqI (fun v71 s72 => Q none s72))))))))))))) ∧ ((v41 = (some (G.2 51))) → zgR s39 (some a0) 7 8 (fun v78 => zgR s39 v78 1 0 (fun v84 => zrc s39 v84 2 (fun a93 => zcl C 128 [.ref a93] Y s39 (zqI (fun v90 s91 => zrc s91 (some a0) 7 (fun a100 => zcl C 319 [.ref a100, .int (0 : Int32), .int (v90 - (1 : Int32))] Y s91 (zqI (fun v97 s98 => zrc s98 (some a0) 7 (fun a107 => zcl C 328 [.ref a107, .int p38, .int v97] Y s98 (zqI (fun v104 s105 => zrc s105 (some a0) 7 (fun a114 => zcl C 311 [.ref a114] Y s105 (zqV (fun s112 => rec40 v104 s112))))))))))))))))) n (0 : Int32) s32))))))) (fun (j23 : Int32 → zS → Prop) => (((5 : Int32) ≤ v14) → j23 (0 : Int32) s15) ∧ ((¬ (5 : Int32) ≤ v14) → j23 (1 : Int32) s15))))))))))
set_option maxHeartbeats 4000000 in
theorem wk327 {l : Launch} {g : zG} {d : Nat} {C : zO} (hG : zGk g) (hC : zSound l g d C) {args : List Value} {Q : zQ} {Y : zY} {σ : zS} (hw : zb327 (zpg g) C args Q Y σ) : zMet l g (d + 1) (⟨"PackingDuel$DuelParser", "list", "(Z)V"⟩, Cond.code ⟨"PackingDuel$DuelParser", "list", "(Z)V"⟩ prog_5_method_4_code 3 (Option.none : Option FieldType)) args σ Q Y := by
  obtain ⟨a0, x1, rfl, hw⟩ := hw
  refine zof hG (by decide +kernel) [false, false] ⟨rfl, rfl, trivial⟩ (Nat.le_of_ble_eq_true rfl) (ls := [some (va_rf (some a0)), some (.int x1), none]) rfl ?_
  intro X hX hR hTb hd1 hd2 hl hg hnm
  subst hl
  subst hg
  have hd : zDep X d := ⟨hd1, hd2⟩
  refine z_aload_n hX dX5_list_0 rfl (i := 0) rfl ?_
  refine z_aload_n hX dX5_list_1 rfl (i := 0) rfl ?_
  obtain ⟨a2, f3, v1, r4, m5, e6, hw⟩ := hw
  refine z_get hX zc7 (k := 8) dX5_list_2 (Nat.le_of_ble_eq_true rfl) (zlk hX q1375) r4 m5 e6 ?_
  refine z_iload_n hX dX5_list_5 rfl (i := 1) rfl ?_
  obtain ⟨a10, f11, r12, m13, hw⟩ := hw
  refine z_invV hX hd r12 (ci := 1) rfl rfl m13 dX5_list_6 (hC 108 _ zm108 _ _ _ _ hw) q1531 q1532 q1533 zh2 q1534 q131 zn108 rfl (Nat.le_of_ble_eq_true rfl) (st := [va_rf (some a0)]) rfl (zcs8 (Nat.le_of_ble_eq_true rfl)) rfl (zkR (fun v7 s8 hw => ?_)) (zout hX hR hTb)
  obtain ⟨a17, f18, r19, m20, hw⟩ := hw
  refine z_invV hX hd r19 (ci := 2) rfl rfl m20 dX5_list_9 (hC 128 _ zm128 _ _ _ _ hw) q1507 q362 q363 zh5 q364 q134 zn128 rfl (Nat.le_of_ble_eq_true rfl) (st := [va_rf (some a0)]) rfl (zcs8 (Nat.le_of_ble_eq_true rfl)) rfl (zkI (fun v14 s15 hw => ?_)) (zout hX hR hTb)
  refine z_iconst hX (v := (5 : Int32)) dX5_list_12 (by decide) ?_
  refine zJ_w (P := fun (j : Int32 → zS → Prop) => ∀ (p21 : Int32) (s22 : zS), j p21 s22 → zW X s22 21 [some (va_rf (some a0)), some (.int x1), none] [.int p21, va_rf (some a0)]) hw (fun p21 s22 hw => ?_) (fun j23 hj23 hw => ?_)
  · refine z_iconst hX (v := (3 : Int32)) dX5_list_21 (by decide) ?_
    obtain ⟨a27, f28, r29, m30, hw⟩ := hw
    refine z_invVU hX hd r29 (ci := 7) rfl rfl m30 dX5_list_22 (hC 317 _ zm317 _ _ _ _ hw) q1437 q1438 (z_declA hX q1439) q1441 q1440 zh13 q1442 q142 (zn317) rfl (Nat.le_of_ble_eq_true rfl) (st := []) rfl (zcs8 (Nat.le_of_ble_eq_true rfl)) rfl (zkV (fun s25 hw => ?_)) (zout hX hR hTb)
    refine z_aload_n hX dX5_list_25 rfl (i := 0) rfl ?_
    obtain ⟨a34, f35, r36, m37, hw⟩ := hw
    refine z_invVU hX hd r36 (ci := 7) rfl rfl m37 dX5_list_26 (hC 311 _ zm311 _ _ _ _ hw) q1508 q1509 (z_declA hX q1510) q1126 q1511 zh13 q1130 q142 (zn311) rfl (Nat.le_of_ble_eq_true rfl) (st := []) rfl (zcs8 (Nat.le_of_ble_eq_true rfl)) rfl (zkV (fun s32 hw => ?_)) (zout hX hR hTb)
    refine z_iconst hX (v := (0 : Int32)) dX5_list_29 (by decide) ?_
    refine z_istore_n hX dX5_list_30 rfl (i := 2) (Nat.le_of_ble_eq_true rfl) rfl (ls2 := [some (va_rf (some a0)), some (.int x1), some (.int (0 : Int32))]) rfl ?_
    obtain ⟨n118, hw⟩ := hw
    refine zIt_w (P := fun (j : Int32 → zS → Prop) => ∀ (p38 : Int32) (s39 : zS), j p38 s39 → zW X s39 31 [some (va_rf (some a0)), some (.int x1), some (.int p38)] []) (fun _ _ h => h.elim) (fun rec40 hrec40 p38 s39 hw => ?_) n118 _ _ hw
    refine z_aload_n hX dX5_list_31 rfl (i := 0) rfl ?_
    obtain ⟨a42, f43, v41, r44, m45, e46, hw⟩ := hw
    refine z_get hX zc7 (k := 6) dX5_list_32 (Nat.le_of_ble_eq_true rfl) (zlkS hX "PackingDuel$DuelParser" q1385 q1386) r44 m45 e46 ?_
    refine z_gets hX dX5_list_35 (List.mem_of_getElem? (i := 1) rfl) q1535 rfl ?_
    show zW _ _ _ _ (va_rf (some (X.g.2.2.2 51)) :: _)
    refine z_acmp_ne hX dX5_list_38 (tgt := 71) rfl (fun c47 => ?_) (fun c47 => ?_)
    · have hw := hw.1 c47
      refine z_aload_n hX dX5_list_71 rfl (i := 0) rfl ?_
      refine z_bipush hX (v := (59 : Int32)) dX5_list_72 (by decide) ?_
      obtain ⟨a51, f52, r53, m54, hw⟩ := hw
      refine z_invVU hX hd r53 (ci := 7) rfl rfl m54 dX5_list_74 (hC 320 _ zm320 _ _ _ _ hw) q1485 q1486 (z_declA hX q1487) q1489 q1488 zh13 q1490 q142 (zn320) rfl (Nat.le_of_ble_eq_true rfl) (st := []) rfl (zcs8 (Nat.le_of_ble_eq_true rfl)) rfl (zkV (fun s49 hw => ?_)) (zout hX hR hTb)
      refine z_aload_n hX dX5_list_77 rfl (i := 0) rfl ?_
      obtain ⟨a56, f57, v55, r58, m59, e60, hw⟩ := hw
      refine z_get hX zc7 (k := 8) dX5_list_78 (Nat.le_of_ble_eq_true rfl) (zlk hX q1375) r58 m59 e60 ?_
      refine z_iload_n hX dX5_list_81 rfl (i := 1) rfl ?_
      obtain ⟨a64, f65, r66, m67, hw⟩ := hw
      refine z_invV hX hd r66 (ci := 1) rfl rfl m67 dX5_list_82 (hC 108 _ zm108 _ _ _ _ hw) q1531 q1532 q1533 zh2 q1534 q131 zn108 rfl (Nat.le_of_ble_eq_true rfl) (st := []) rfl (zcs8 (Nat.le_of_ble_eq_true rfl)) rfl (zkR (fun v61 s62 hw => ?_)) (zout hX hR hTb)
      refine z_iload_n hX dX5_list_85 rfl (i := 2) rfl ?_
      refine z_invS hX hd dX5_list_86 (hC 436 _ zm436 _ _ _ _ hw) q1605 q1606 zh24 q1607 q154 zn436 rfl (Nat.le_of_ble_eq_true rfl) (st := [va_rf v61]) rfl (zcs8 (Nat.le_of_ble_eq_true rfl)) rfl (zkR (fun v68 s69 hw => ?_)) (zout hX hR hTb)
      obtain ⟨a74, f75, r76, m77, hw⟩ := hw
      refine z_invV hX hd r76 (ci := 2) rfl rfl m77 dX5_list_89 (hC 131 _ zm131 _ _ _ _ hw) q1524 q765 q766 zh5 q767 q134 zn131 rfl (Nat.le_of_ble_eq_true rfl) (st := []) rfl (zcs8 (Nat.le_of_ble_eq_true rfl)) rfl (zkI (fun v71 s72 hw => ?_)) (zout hX hR hTb)
      refine z_pop hX dX5_list_92 rfl ?_
      exact z_return hX hR dX5_list_93 hw
    · have hw := hw.2 c47
      refine z_aload_n hX dX5_list_41 rfl (i := 0) rfl ?_
      refine z_iload_n hX dX5_list_42 rfl (i := 2) rfl ?_
      refine z_aload_n hX dX5_list_43 rfl (i := 0) rfl ?_
      refine z_iconst hX (v := (0 : Int32)) dX5_list_44 (by decide) ?_
      refine z_aload_n hX dX5_list_45 rfl (i := 0) rfl ?_
      obtain ⟨a79, f80, v78, r81, m82, e83, hw⟩ := hw
      refine z_get hX zc7 (k := 8) dX5_list_46 (Nat.le_of_ble_eq_true rfl) (zlk hX q1375) r81 m82 e83 ?_
      obtain ⟨a85, f86, v84, r87, m88, e89, hw⟩ := hw
      refine z_get hX zc1 (k := 0) dX5_list_49 (Nat.le_of_ble_eq_true rfl) (zlkN hX "PackingDuel" q226) r87 m88 e89 ?_
      obtain ⟨a93, f94, r95, m96, hw⟩ := hw
      refine z_invV hX hd r95 (ci := 2) rfl rfl m96 dX5_list_52 (hC 128 _ zm128 _ _ _ _ hw) q1507 q362 q363 zh5 q364 q134 zn128 rfl (Nat.le_of_ble_eq_true rfl) (st := [.int (0 : Int32), va_rf (some a0), .int p38, va_rf (some a0)]) rfl (zcs8 (Nat.le_of_ble_eq_true rfl)) rfl (zkI (fun v90 s91 hw => ?_)) (zout hX hR hTb)
      refine z_iconst hX (v := (1 : Int32)) dX5_list_55 (by decide) ?_
      refine z_isub hX dX5_list_56 ?_
      obtain ⟨a100, f101, r102, m103, hw⟩ := hw
      refine z_invVU hX hd r102 (ci := 7) rfl rfl m103 dX5_list_57 (hC 319 _ zm319 _ _ _ _ hw) q1536 q1537 (z_declA hX q1538) q1478 q1539 zh13 q1482 q142 (zn319) rfl (Nat.le_of_ble_eq_true rfl) (st := [.int p38, va_rf (some a0)]) rfl (zcs8 (Nat.le_of_ble_eq_true rfl)) rfl (zkI (fun v97 s98 hw => ?_)) (zout hX hR hTb)
      obtain ⟨a107, f108, r109, m110, hw⟩ := hw
      refine z_invVX hX hd r109 (ci := 7) rfl rfl m110 dX5_list_60 (hC 328 _ zm328 _ _ _ _ hw) q1540 q1542 qs21 zh14 q1543 q143 zn328 rfl (Nat.le_of_ble_eq_true rfl) (st := []) rfl (zcs8 (Nat.le_of_ble_eq_true rfl)) rfl (zkI (fun v104 s105 hw => ?_)) (zout hX hR hTb)
      refine z_istore_n hX dX5_list_63 rfl (i := 2) (Nat.le_of_ble_eq_true rfl) rfl (ls2 := [some (va_rf (some a0)), some (.int x1), some (.int v104)]) rfl ?_
      refine z_aload_n hX dX5_list_64 rfl (i := 0) rfl ?_
      obtain ⟨a114, f115, r116, m117, hw⟩ := hw
      refine z_invVU hX hd r116 (ci := 7) rfl rfl m117 dX5_list_65 (hC 311 _ zm311 _ _ _ _ hw) q1508 q1509 (z_declA hX q1510) q1126 q1511 zh13 q1130 q142 (zn311) rfl (Nat.le_of_ble_eq_true rfl) (st := []) rfl (zcs8 (Nat.le_of_ble_eq_true rfl)) rfl (zkV (fun s112 hw => ?_)) (zout hX hR hTb)
      refine z_goto hX dX5_list_68 (tgt := 31) rfl ?_
      exact hrec40 _ _ hw
  · refine z_icmp_ge hX dX5_list_13 (tgt := 20) rfl (fun c119 => ?_) (fun c119 => ?_)
    · have hw := hw.1 c119
      refine z_iconst hX (v := (0 : Int32)) dX5_list_20 (by decide) ?_
      exact hj23 _ _ hw
    · have hw := hw.2 c119
      refine z_iconst hX (v := (1 : Int32)) dX5_list_16 (by decide) ?_
      refine z_goto hX dX5_list_17 (tgt := 21) rfl ?_
      exact hj23 _ _ hw
