set_option maxRecDepth 100000
abbrev cJ14_copyOfRangeByte : ByteArray := prog_59_method_133_code
def yJ14_copyOfRangeByte : MethodName := ⟨RJ14, "copyOfRangeByte", "([BII)[B"⟩
def dkwJ14_copyOfRangeByte_1 : List UInt8 := [184, 1, 48, 184, 0, 150, 25, 4, 176]
abbrev dktJ14_copyOfRangeByte_1 : List UInt8 := dkwJ14_copyOfRangeByte_1 ++ []
def dkwJ14_copyOfRangeByte_0 : List UInt8 := [27, 28, 184, 1, 87, 28, 27, 100, 62, 29, 188, 8, 58, 4, 42, 27, 25, 4, 3, 42, 190, 27, 100, 29]
abbrev dktJ14_copyOfRangeByte_0 : List UInt8 := dkwJ14_copyOfRangeByte_0 ++ dktJ14_copyOfRangeByte_1
theorem dksJ14_copyOfRangeByte_0 : cJ14_copyOfRangeByte.data.toList.drop 0 = dktJ14_copyOfRangeByte_0 := by decide +kernel
theorem dksJ14_copyOfRangeByte_1 : cJ14_copyOfRangeByte.data.toList.drop 24 = dktJ14_copyOfRangeByte_1 := dk_seg dksJ14_copyOfRangeByte_0 24 rfl rfl
theorem dJ14_copyOfRangeByte_0 : decode cJ14_copyOfRangeByte 0 = .ok (.iload_n 1, 1) := dk_27 (dk_at dksJ14_copyOfRangeByte_0 0 rfl rfl)
theorem dJ14_copyOfRangeByte_1 : decode cJ14_copyOfRangeByte 1 = .ok (.iload_n 2, 1) := dk_28 (dk_at dksJ14_copyOfRangeByte_0 1 rfl rfl)
theorem dJ14_copyOfRangeByte_2 : decode cJ14_copyOfRangeByte 2 = .ok (.invokestatic 343, 3) := dk_184 1 87 (dk_at dksJ14_copyOfRangeByte_0 2 rfl rfl)
theorem dJ14_copyOfRangeByte_5 : decode cJ14_copyOfRangeByte 5 = .ok (.iload_n 2, 1) := dk_28 (dk_at dksJ14_copyOfRangeByte_0 5 rfl rfl)
theorem dJ14_copyOfRangeByte_6 : decode cJ14_copyOfRangeByte 6 = .ok (.iload_n 1, 1) := dk_27 (dk_at dksJ14_copyOfRangeByte_0 6 rfl rfl)
theorem dJ14_copyOfRangeByte_7 : decode cJ14_copyOfRangeByte 7 = .ok (.isub, 1) := dk_100 (dk_at dksJ14_copyOfRangeByte_0 7 rfl rfl)
theorem dJ14_copyOfRangeByte_8 : decode cJ14_copyOfRangeByte 8 = .ok (.istore_n 3, 1) := dk_62 (dk_at dksJ14_copyOfRangeByte_0 8 rfl rfl)
theorem dJ14_copyOfRangeByte_9 : decode cJ14_copyOfRangeByte 9 = .ok (.iload_n 3, 1) := dk_29 (dk_at dksJ14_copyOfRangeByte_0 9 rfl rfl)
theorem dJ14_copyOfRangeByte_10 : decode cJ14_copyOfRangeByte 10 = .ok (.newarray .byte, 2) := dk_188_8 (dk_at dksJ14_copyOfRangeByte_0 10 rfl rfl)
theorem dJ14_copyOfRangeByte_12 : decode cJ14_copyOfRangeByte 12 = .ok (.astore 4, 2) := dk_58 4 (dk_at dksJ14_copyOfRangeByte_0 12 rfl rfl)
theorem dJ14_copyOfRangeByte_14 : decode cJ14_copyOfRangeByte 14 = .ok (.aload_n 0, 1) := dk_42 (dk_at dksJ14_copyOfRangeByte_0 14 rfl rfl)
theorem dJ14_copyOfRangeByte_15 : decode cJ14_copyOfRangeByte 15 = .ok (.iload_n 1, 1) := dk_27 (dk_at dksJ14_copyOfRangeByte_0 15 rfl rfl)
theorem dJ14_copyOfRangeByte_16 : decode cJ14_copyOfRangeByte 16 = .ok (.aload 4, 2) := dk_25 4 (dk_at dksJ14_copyOfRangeByte_0 16 rfl rfl)
theorem dJ14_copyOfRangeByte_18 : decode cJ14_copyOfRangeByte 18 = .ok (.iconst 0, 1) := dk_3 (dk_at dksJ14_copyOfRangeByte_0 18 rfl rfl)
theorem dJ14_copyOfRangeByte_19 : decode cJ14_copyOfRangeByte 19 = .ok (.aload_n 0, 1) := dk_42 (dk_at dksJ14_copyOfRangeByte_0 19 rfl rfl)
theorem dJ14_copyOfRangeByte_20 : decode cJ14_copyOfRangeByte 20 = .ok (.arraylength, 1) := dk_190 (dk_at dksJ14_copyOfRangeByte_0 20 rfl rfl)
theorem dJ14_copyOfRangeByte_21 : decode cJ14_copyOfRangeByte 21 = .ok (.iload_n 1, 1) := dk_27 (dk_at dksJ14_copyOfRangeByte_0 21 rfl rfl)
theorem dJ14_copyOfRangeByte_22 : decode cJ14_copyOfRangeByte 22 = .ok (.isub, 1) := dk_100 (dk_at dksJ14_copyOfRangeByte_0 22 rfl rfl)
theorem dJ14_copyOfRangeByte_23 : decode cJ14_copyOfRangeByte 23 = .ok (.iload_n 3, 1) := dk_29 (dk_at dksJ14_copyOfRangeByte_0 23 rfl rfl)
theorem dJ14_copyOfRangeByte_24 : decode cJ14_copyOfRangeByte 24 = .ok (.invokestatic 304, 3) := dk_184 1 48 (dk_at dksJ14_copyOfRangeByte_1 0 rfl rfl)
theorem dJ14_copyOfRangeByte_27 : decode cJ14_copyOfRangeByte 27 = .ok (.invokestatic 150, 3) := dk_184 0 150 (dk_at dksJ14_copyOfRangeByte_1 3 rfl rfl)
theorem dJ14_copyOfRangeByte_30 : decode cJ14_copyOfRangeByte 30 = .ok (.aload 4, 2) := dk_25 4 (dk_at dksJ14_copyOfRangeByte_1 6 rfl rfl)
theorem dJ14_copyOfRangeByte_32 : decode cJ14_copyOfRangeByte 32 = .ok (.areturn, 1) := dk_176 (dk_at dksJ14_copyOfRangeByte_1 8 rfl rfl)
/-- java/util/Arrays.copyOfRangeByte([BII)[B -/
def zb412 (G : zPg) (C : zO) (args : List Value) (Q : zQ) (Y : zY) (σ : zS) : Prop := ∃ (x1 : Option Nat) (x2 : Int32) (x3 : Int32), args = [va_rf x1, .int x2, .int x3] ∧ (zcl C 413 [.int x2, .int x3] Y σ (zqV (fun s2 => znewA s2 2 (x3 - x2) (.inl (fun _ => 0)) (fun s4 => zln s4 2 x1 (fun v11 => zcl C 295 [.int (v11 - x2), .int (x3 - x2)] Y s4 (zqI (fun v13 s14 => zacp s14 G.1 2 [] x1 x2 (some s2.2.1) (0 : Int32) v13 (fun s16 => Q (some (va_rf (some s2.2.1))) s16))))))))
set_option maxHeartbeats 4000000 in
theorem wk412 {l : Launch} {g : zG} {d : Nat} {C : zO} (hG : zGk g) (hC : zSound l g d C) {args : List Value} {Q : zQ} {Y : zY} {σ : zS} (hw : zb412 (zpg g) C args Q Y σ) : zMet l g (d + 1) (⟨"java/util/Arrays", "copyOfRangeByte", "([BII)[B"⟩, Cond.code ⟨"java/util/Arrays", "copyOfRangeByte", "([BII)[B"⟩ prog_59_method_133_code 5 (Option.some (FieldType.array FieldType.byte))) args σ Q Y := by
  obtain ⟨x1, x2, x3, rfl, hw⟩ := hw
  refine zof hG (by decide +kernel) [false, false, false] ⟨(zc_rf _), rfl, rfl, trivial⟩ (Nat.le_of_ble_eq_true rfl) (ls := [some (va_rf x1), some (.int x2), some (.int x3), none, none]) rfl ?_
  intro X hX hR hTb hd1 hd2 hl hg hnm
  subst hl
  subst hg
  have hd : zDep X d := ⟨hd1, hd2⟩
  refine z_iload_n hX dJ14_copyOfRangeByte_0 rfl (i := 1) rfl ?_
  refine z_iload_n hX dJ14_copyOfRangeByte_1 rfl (i := 2) rfl ?_
  refine z_invS hX hd dJ14_copyOfRangeByte_2 (hC 413 _ zm413 _ _ _ _ hw) q1301 q1302 zh20 q1303 q149 zn413 rfl (Nat.le_of_ble_eq_true rfl) (st := []) rfl (zcs8 (Nat.le_of_ble_eq_true rfl)) rfl (zkV (fun s2 hw => ?_)) (zout hX hR hTb)
  refine z_iload_n hX dJ14_copyOfRangeByte_5 rfl (i := 2) rfl ?_
  refine z_iload_n hX dJ14_copyOfRangeByte_6 rfl (i := 1) rfl ?_
  refine z_isub hX dJ14_copyOfRangeByte_7 ?_
  refine z_istore_n hX dJ14_copyOfRangeByte_8 rfl (i := 3) (Nat.le_of_ble_eq_true rfl) rfl (ls2 := [some (va_rf x1), some (.int x2), some (.int x3), some (.int (x3 - x2)), none]) rfl ?_
  refine z_iload_n hX dJ14_copyOfRangeByte_9 rfl (i := 3) rfl ?_
  refine z_newB hX dJ14_copyOfRangeByte_10 q330 hw.1 hw.2.1 hw.2.2.1 hw.2.2.2.1 (fun z5 => z_nm (fun s4 e6 => ?_))
  have hw := hw.2.2.2.2 z5 s4 e6
  refine z_astore hX dJ14_copyOfRangeByte_12 (i := 4) (Nat.le_of_ble_eq_true rfl) rfl (ls2 := [some (va_rf x1), some (.int x2), some (.int x3), some (.int (x3 - x2)), some (va_rf (some s2.2.1))]) rfl ?_
  refine z_aload_n hX dJ14_copyOfRangeByte_14 rfl (i := 0) rfl ?_
  refine z_iload_n hX dJ14_copyOfRangeByte_15 rfl (i := 1) rfl ?_
  refine z_aload hX dJ14_copyOfRangeByte_16 (i := 4) rfl ?_
  refine z_iconst hX (v := (0 : Int32)) dJ14_copyOfRangeByte_18 (by decide) ?_
  refine z_aload_n hX dJ14_copyOfRangeByte_19 rfl (i := 0) rfl ?_
  obtain ⟨a7, n8, r9, m10, hw⟩ := hw
  refine z_alen hX 2 dJ14_copyOfRangeByte_20 r9 m10 ?_
  revert hw
  generalize nI n8.1 = v11
  intro hw
  refine z_iload_n hX dJ14_copyOfRangeByte_21 rfl (i := 1) rfl ?_
  refine z_isub hX dJ14_copyOfRangeByte_22 ?_
  refine z_iload_n hX dJ14_copyOfRangeByte_23 rfl (i := 3) rfl ?_
  refine z_invS hX hd dJ14_copyOfRangeByte_24 (hC 295 _ zm295 _ _ _ _ hw) q832 q479 zh8 q480 q137 zn295 rfl (Nat.le_of_ble_eq_true rfl) (st := [.int (0 : Int32), va_rf (some s2.2.1), .int x2, va_rf x1]) rfl (zcs8 (Nat.le_of_ble_eq_true rfl)) rfl (zkI (fun v13 s14 hw => ?_)) (zout hX hR hTb)
  refine z_acp hX hd 2 dJ14_copyOfRangeByte_27 q833 q835 q834 q150 (E := "") (Or.inl rfl) hw rfl (zcs8 (Nat.le_of_ble_eq_true rfl)) (fun s16 hw => ?_)
  refine z_aload hX dJ14_copyOfRangeByte_30 (i := 4) rfl ?_
  exact z_areturn hX hR dJ14_copyOfRangeByte_32 (Or.inr ⟨_, rfl⟩) hw
abbrev cJ14_checkLength : ByteArray := prog_59_method_131_code
def yJ14_checkLength : MethodName := ⟨RJ14, "checkLength", "(II)V"⟩
def dkwJ14_checkLength_1 : List UInt8 := [182, 0, 50, 27, 182, 0, 54, 182, 0, 61, 183, 0, 65, 191, 177]
abbrev dktJ14_checkLength_1 : List UInt8 := dkwJ14_checkLength_1 ++ []
def dkwJ14_checkLength_0 : List UInt8 := [27, 26, 162, 0, 35, 187, 0, 43, 89, 187, 0, 45, 89, 183, 0, 47, 26, 182, 0, 54, 19, 1, 81]
abbrev dktJ14_checkLength_0 : List UInt8 := dkwJ14_checkLength_0 ++ dktJ14_checkLength_1
theorem dksJ14_checkLength_0 : cJ14_checkLength.data.toList.drop 0 = dktJ14_checkLength_0 := by decide +kernel
theorem dksJ14_checkLength_1 : cJ14_checkLength.data.toList.drop 23 = dktJ14_checkLength_1 := dk_seg dksJ14_checkLength_0 23 rfl rfl
theorem dJ14_checkLength_0 : decode cJ14_checkLength 0 = .ok (.iload_n 1, 1) := dk_27 (dk_at dksJ14_checkLength_0 0 rfl rfl)
theorem dJ14_checkLength_1 : decode cJ14_checkLength 1 = .ok (.iload_n 0, 1) := dk_26 (dk_at dksJ14_checkLength_0 1 rfl rfl)
theorem dJ14_checkLength_2 : decode cJ14_checkLength 2 = .ok (.if_icmp .ge 35, 3) := dk_162 0 35 (dk_at dksJ14_checkLength_0 2 rfl rfl)
theorem dJ14_checkLength_5 : decode cJ14_checkLength 5 = .ok (.new 43, 3) := dk_187 0 43 (dk_at dksJ14_checkLength_0 5 rfl rfl)
theorem dJ14_checkLength_8 : decode cJ14_checkLength 8 = .ok (.dup, 1) := dk_89 (dk_at dksJ14_checkLength_0 8 rfl rfl)
theorem dJ14_checkLength_9 : decode cJ14_checkLength 9 = .ok (.new 45, 3) := dk_187 0 45 (dk_at dksJ14_checkLength_0 9 rfl rfl)
theorem dJ14_checkLength_12 : decode cJ14_checkLength 12 = .ok (.dup, 1) := dk_89 (dk_at dksJ14_checkLength_0 12 rfl rfl)
theorem dJ14_checkLength_13 : decode cJ14_checkLength 13 = .ok (.invokespecial 47, 3) := dk_183 0 47 (dk_at dksJ14_checkLength_0 13 rfl rfl)
theorem dJ14_checkLength_16 : decode cJ14_checkLength 16 = .ok (.iload_n 0, 1) := dk_26 (dk_at dksJ14_checkLength_0 16 rfl rfl)
theorem dJ14_checkLength_17 : decode cJ14_checkLength 17 = .ok (.invokevirtual 54, 3) := dk_182 0 54 (dk_at dksJ14_checkLength_0 17 rfl rfl)
theorem dJ14_checkLength_20 : decode cJ14_checkLength 20 = .ok (.ldc_w 337, 3) := dk_19 1 81 (dk_at dksJ14_checkLength_0 20 rfl rfl)
theorem dJ14_checkLength_23 : decode cJ14_checkLength 23 = .ok (.invokevirtual 50, 3) := dk_182 0 50 (dk_at dksJ14_checkLength_1 0 rfl rfl)
theorem dJ14_checkLength_26 : decode cJ14_checkLength 26 = .ok (.iload_n 1, 1) := dk_27 (dk_at dksJ14_checkLength_1 3 rfl rfl)
theorem dJ14_checkLength_27 : decode cJ14_checkLength 27 = .ok (.invokevirtual 54, 3) := dk_182 0 54 (dk_at dksJ14_checkLength_1 4 rfl rfl)
theorem dJ14_checkLength_30 : decode cJ14_checkLength 30 = .ok (.invokevirtual 61, 3) := dk_182 0 61 (dk_at dksJ14_checkLength_1 7 rfl rfl)
theorem dJ14_checkLength_33 : decode cJ14_checkLength 33 = .ok (.invokespecial 65, 3) := dk_183 0 65 (dk_at dksJ14_checkLength_1 10 rfl rfl)
theorem dJ14_checkLength_36 : decode cJ14_checkLength 36 = .ok (.athrow, 1) := dk_191 (dk_at dksJ14_checkLength_1 13 rfl rfl)
theorem dJ14_checkLength_37 : decode cJ14_checkLength 37 = .ok (.return_, 1) := dk_177 (dk_at dksJ14_checkLength_1 14 rfl rfl)
/-- java/util/Arrays.checkLength(II)V -/
def zb413 (G : zPg) (C : zO) (args : List Value) (Q : zQ) (Y : zY) (σ : zS) : Prop := ∃ (x1 : Int32) (x2 : Int32), args = [.int x1, .int x2] ∧ (((x1 ≤ x2) → Q none σ) ∧ ((¬ x1 ≤ x2) → znew σ 6 [] 6 (fun s2 => znew s2 8 [va_rf none, .int 0, .int 0, .int 0] 4 (fun s5 => (∃ a11, (some s2.2.1) = some a11 ∧ zcl C 346 [.ref a11] Y s5 (zqV (fun s9 => zrc s9 (some s2.2.1) 8 (fun a16 => zcl C 349 [.ref a16, .int x1] Y s9 (zqR (fun v13 s14 => False))))))))))
set_option maxHeartbeats 4000000 in
theorem wk413 {l : Launch} {g : zG} {d : Nat} {C : zO} (hG : zGk g) (hC : zSound l g d C) {args : List Value} {Q : zQ} {Y : zY} {σ : zS} (hw : zb413 (zpg g) C args Q Y σ) : zMet l g (d + 1) (⟨"java/util/Arrays", "checkLength", "(II)V"⟩, Cond.code ⟨"java/util/Arrays", "checkLength", "(II)V"⟩ prog_59_method_131_code 2 (Option.none : Option FieldType)) args σ Q Y := by
  obtain ⟨x1, x2, rfl, hw⟩ := hw
  refine zof hG (by decide +kernel) [false, false] ⟨rfl, rfl, trivial⟩ (Nat.le_of_ble_eq_true rfl) (ls := [some (.int x1), some (.int x2)]) rfl ?_
  intro X hX hR hTb hd1 hd2 hl hg hnm
  subst hl
  subst hg
  have hd : zDep X d := ⟨hd1, hd2⟩
  refine z_iload_n hX dJ14_checkLength_0 rfl (i := 1) rfl ?_
  refine z_iload_n hX dJ14_checkLength_1 rfl (i := 0) rfl ?_
  refine z_icmp_ge hX dJ14_checkLength_2 (tgt := 37) rfl (fun c1 => ?_) (fun c1 => ?_)
  · have hw := hw.1 c1
    exact z_return hX hR dJ14_checkLength_37 hw
  · have hw := hw.2 c1
    refine z_new hX zc6 dJ14_checkLength_5 q1176 q1071 q141 (fs := []) (fun j hj => absurd hj (Nat.not_lt_zero _)) hw.1 hw.2.1 (fun z3 => z_nm (fun s2 e4 => ?_))
    have hw := hw.2.2 z3 s2 e4
    refine z_dup hX dJ14_checkLength_8 (zc_rf _) ?_
    refine z_new hX zc8 dJ14_checkLength_9 q1177 q1095 q145 (fs := [va_rf none, .int 0, .int 0, .int 0]) (fun j hj => by have hj : j < 4 := hj; exact zdf8 j hj) hw.1 hw.2.1 (fun z6 => z_nm (fun s5 e7 => ?_))
    have hw := hw.2.2 z6 s5 e7
    refine z_dup hX dJ14_checkLength_12 (zc_rf _) ?_
    obtain ⟨a11, r12, hw⟩ := hw
    refine z_invI hX hd r12 dJ14_checkLength_13 (hC 346 _ zm346 _ _ _ _ hw) q1178 q1097 rfl zh16 q1098 q145 zn346 rfl (Nat.le_of_ble_eq_true rfl) (st := [va_rf (some s2.2.1), va_rf (some σ.2.1), va_rf (some σ.2.1)]) rfl (zcs8 (Nat.le_of_ble_eq_true rfl)) rfl (zkV (fun s9 hw => ?_)) (zout hX hR hTb)
    refine z_iload_n hX dJ14_checkLength_16 rfl (i := 0) rfl ?_
    obtain ⟨a16, f17, r18, m19, hw⟩ := hw
    refine z_invV hX hd r18 (ci := 8) rfl rfl m19 dJ14_checkLength_17 (hC 349 _ zm349 _ _ _ _ hw) q1241 q1242 q1243 zh16 q1244 q145 zn349 rfl (Nat.le_of_ble_eq_true rfl) (st := [va_rf (some σ.2.1), va_rf (some σ.2.1)]) rfl (zcs8 (Nat.le_of_ble_eq_true rfl)) rfl (zkR (fun v13 s14 hw => ?_)) (zout hX hR hTb)
    exact hw.elim
def RJ15 : String := "java/lang/StringLatin1"
abbrev cJ15_charAt : ByteArray := prog_47_method_2_code
def yJ15_charAt : MethodName := ⟨RJ15, "charAt", "([BI)C"⟩
def dkwJ15_charAt_0 : List UInt8 := [27, 42, 190, 184, 0, 9, 42, 27, 51, 17, 0, 255, 126, 146, 172]
abbrev dktJ15_charAt_0 : List UInt8 := dkwJ15_charAt_0 ++ []
theorem dksJ15_charAt_0 : cJ15_charAt.data.toList.drop 0 = dktJ15_charAt_0 := by decide +kernel
theorem dJ15_charAt_0 : decode cJ15_charAt 0 = .ok (.iload_n 1, 1) := dk_27 (dk_at dksJ15_charAt_0 0 rfl rfl)
theorem dJ15_charAt_1 : decode cJ15_charAt 1 = .ok (.aload_n 0, 1) := dk_42 (dk_at dksJ15_charAt_0 1 rfl rfl)
theorem dJ15_charAt_2 : decode cJ15_charAt 2 = .ok (.arraylength, 1) := dk_190 (dk_at dksJ15_charAt_0 2 rfl rfl)
theorem dJ15_charAt_3 : decode cJ15_charAt 3 = .ok (.invokestatic 9, 3) := dk_184 0 9 (dk_at dksJ15_charAt_0 3 rfl rfl)
theorem dJ15_charAt_6 : decode cJ15_charAt 6 = .ok (.aload_n 0, 1) := dk_42 (dk_at dksJ15_charAt_0 6 rfl rfl)
theorem dJ15_charAt_7 : decode cJ15_charAt 7 = .ok (.iload_n 1, 1) := dk_27 (dk_at dksJ15_charAt_0 7 rfl rfl)
theorem dJ15_charAt_8 : decode cJ15_charAt 8 = .ok (.baload, 1) := dk_51 (dk_at dksJ15_charAt_0 8 rfl rfl)
theorem dJ15_charAt_9 : decode cJ15_charAt 9 = .ok (.sipush 255, 3) := dk_17 0 255 (dk_at dksJ15_charAt_0 9 rfl rfl)
theorem dJ15_charAt_12 : decode cJ15_charAt 12 = .ok (.iand, 1) := dk_126 (dk_at dksJ15_charAt_0 12 rfl rfl)
theorem dJ15_charAt_13 : decode cJ15_charAt 13 = .ok (.i2c, 1) := dk_146 (dk_at dksJ15_charAt_0 13 rfl rfl)
theorem dJ15_charAt_14 : decode cJ15_charAt 14 = .ok (.ireturn, 1) := dk_172 (dk_at dksJ15_charAt_0 14 rfl rfl)
/-- java/lang/StringLatin1.charAt([BI)C -/
def zb414 (G : zPg) (C : zO) (args : List Value) (Q : zQ) (Y : zY) (σ : zS) : Prop := ∃ (x1 : Option Nat) (x2 : Int32), args = [va_rf x1, .int x2] ∧ (zln σ 2 x1 (fun v5 => zcl C 359 [.int x2, .int v5] Y σ (zqV (fun s8 => zaI s8 2 x1 x2 (fun v16 => narrow .char (.int (((v16 &&& (255 : Int32)).toUInt32 % 65536).toInt32)) = .int (((v16 &&& (255 : Int32)).toUInt32 % 65536).toInt32) ∧ Q (some (.int (((v16 &&& (255 : Int32)).toUInt32 % 65536).toInt32))) s8)))))
set_option maxHeartbeats 4000000 in
theorem wk414 {l : Launch} {g : zG} {d : Nat} {C : zO} (hG : zGk g) (hC : zSound l g d C) {args : List Value} {Q : zQ} {Y : zY} {σ : zS} (hw : zb414 (zpg g) C args Q Y σ) : zMet l g (d + 1) (⟨"java/lang/StringLatin1", "charAt", "([BI)C"⟩, Cond.code ⟨"java/lang/StringLatin1", "charAt", "([BI)C"⟩ prog_47_method_2_code 2 (Option.some FieldType.char)) args σ Q Y := by
  obtain ⟨x1, x2, rfl, hw⟩ := hw
  refine zof hG (by decide +kernel) [false, false] ⟨(zc_rf _), rfl, trivial⟩ (Nat.le_of_ble_eq_true rfl) (ls := [some (va_rf x1), some (.int x2)]) rfl ?_
  intro X hX hR hTb hd1 hd2 hl hg hnm
  subst hl
  subst hg
  have hd : zDep X d := ⟨hd1, hd2⟩
  refine z_iload_n hX dJ15_charAt_0 rfl (i := 1) rfl ?_
  refine z_aload_n hX dJ15_charAt_1 rfl (i := 0) rfl ?_
  obtain ⟨a1, n2, r3, m4, hw⟩ := hw
  refine z_alen hX 2 dJ15_charAt_2 r3 m4 ?_
  revert hw
  generalize nI n2.1 = v5
  intro hw
  refine z_invS hX hd dJ15_charAt_3 (hC 359 _ zm359 _ _ _ _ hw) q1028 q1029 zh17 q1030 q146 zn359 rfl (Nat.le_of_ble_eq_true rfl) (st := []) rfl (zcs8 (Nat.le_of_ble_eq_true rfl)) rfl (zkV (fun s8 hw => ?_)) (zout hX hR hTb)
  refine z_aload_n hX dJ15_charAt_6 rfl (i := 0) rfl ?_
  refine z_iload_n hX dJ15_charAt_7 rfl (i := 1) rfl ?_
  obtain ⟨a10, n11, f12, r13, m14, i15, hw⟩ := hw
  refine z_bald hX dJ15_charAt_8 r13 m14 i15 ?_
  revert hw
  generalize f12 (Int32.toNatClampNeg x2) = v16
  intro hw
  refine z_sipush hX (v := (255 : Int32)) dJ15_charAt_9 (by decide) ?_
  refine z_iand hX dJ15_charAt_12 ?_
  refine z_i2c hX dJ15_charAt_13 ?_
  exact z_ireturn hX hR dJ15_charAt_14 hw.1 hw.2
abbrev cJ15_fillNull : ByteArray := prog_47_method_48_code
def yJ15_fillNull : MethodName := ⟨RJ15, "fillNull", "([BII)V"⟩
def dkwJ15_fillNull_0 : List UInt8 := [42, 27, 28, 3, 184, 0, 236, 177]
abbrev dktJ15_fillNull_0 : List UInt8 := dkwJ15_fillNull_0 ++ []
theorem dksJ15_fillNull_0 : cJ15_fillNull.data.toList.drop 0 = dktJ15_fillNull_0 := by decide +kernel
theorem dJ15_fillNull_0 : decode cJ15_fillNull 0 = .ok (.aload_n 0, 1) := dk_42 (dk_at dksJ15_fillNull_0 0 rfl rfl)
theorem dJ15_fillNull_1 : decode cJ15_fillNull 1 = .ok (.iload_n 1, 1) := dk_27 (dk_at dksJ15_fillNull_0 1 rfl rfl)
theorem dJ15_fillNull_2 : decode cJ15_fillNull 2 = .ok (.iload_n 2, 1) := dk_28 (dk_at dksJ15_fillNull_0 2 rfl rfl)
theorem dJ15_fillNull_3 : decode cJ15_fillNull 3 = .ok (.iconst 0, 1) := dk_3 (dk_at dksJ15_fillNull_0 3 rfl rfl)
theorem dJ15_fillNull_4 : decode cJ15_fillNull 4 = .ok (.invokestatic 236, 3) := dk_184 0 236 (dk_at dksJ15_fillNull_0 4 rfl rfl)
theorem dJ15_fillNull_7 : decode cJ15_fillNull 7 = .ok (.return_, 1) := dk_177 (dk_at dksJ15_fillNull_0 7 rfl rfl)
/-- java/lang/StringLatin1.fillNull([BII)V -/
def zb415 (G : zPg) (C : zO) (args : List Value) (Q : zQ) (Y : zY) (σ : zS) : Prop := ∃ (x1 : Option Nat) (x2 : Int32) (x3 : Int32), args = [va_rf x1, .int x2, .int x3] ∧ (zcl C 409 [va_rf x1, .int x2, .int x3, .int (0 : Int32)] Y σ (zqV (fun s2 => Q none s2)))
set_option maxHeartbeats 4000000 in
theorem wk415 {l : Launch} {g : zG} {d : Nat} {C : zO} (hG : zGk g) (hC : zSound l g d C) {args : List Value} {Q : zQ} {Y : zY} {σ : zS} (hw : zb415 (zpg g) C args Q Y σ) : zMet l g (d + 1) (⟨"java/lang/StringLatin1", "fillNull", "([BII)V"⟩, Cond.code ⟨"java/lang/StringLatin1", "fillNull", "([BII)V"⟩ prog_47_method_48_code 3 (Option.none : Option FieldType)) args σ Q Y := by
  obtain ⟨x1, x2, x3, rfl, hw⟩ := hw
  refine zof hG (by decide +kernel) [false, false, false] ⟨(zc_rf _), rfl, rfl, trivial⟩ (Nat.le_of_ble_eq_true rfl) (ls := [some (va_rf x1), some (.int x2), some (.int x3)]) rfl ?_
  intro X hX hR hTb hd1 hd2 hl hg hnm
  subst hl
  subst hg
  have hd : zDep X d := ⟨hd1, hd2⟩
  refine z_aload_n hX dJ15_fillNull_0 rfl (i := 0) rfl ?_
  refine z_iload_n hX dJ15_fillNull_1 rfl (i := 1) rfl ?_
  refine z_iload_n hX dJ15_fillNull_2 rfl (i := 2) rfl ?_
  refine z_iconst hX (v := (0 : Int32)) dJ15_fillNull_3 (by decide) ?_
  refine z_invS hX hd dJ15_fillNull_4 (hC 409 _ zm409 _ _ _ _ hw) q1170 q1171 zh20 q1172 q149 zn409 rfl (Nat.le_of_ble_eq_true rfl) (st := []) rfl (zcs8 (Nat.le_of_ble_eq_true rfl)) rfl (zkV (fun s2 hw => ?_)) (zout hX hR hTb)
  exact z_return hX hR dJ15_fillNull_7 hw
abbrev cJ15_inflate : ByteArray := prog_47_method_50_code
def yJ15_inflate : MethodName := ⟨RJ15, "inflate", "([BI[BII)V"⟩
def dkwJ15_inflate_0 : List UInt8 := [42, 27, 44, 29, 21, 4, 184, 0, 240, 177]
abbrev dktJ15_inflate_0 : List UInt8 := dkwJ15_inflate_0 ++ []
theorem dksJ15_inflate_0 : cJ15_inflate.data.toList.drop 0 = dktJ15_inflate_0 := by decide +kernel
theorem dJ15_inflate_0 : decode cJ15_inflate 0 = .ok (.aload_n 0, 1) := dk_42 (dk_at dksJ15_inflate_0 0 rfl rfl)
theorem dJ15_inflate_1 : decode cJ15_inflate 1 = .ok (.iload_n 1, 1) := dk_27 (dk_at dksJ15_inflate_0 1 rfl rfl)
theorem dJ15_inflate_2 : decode cJ15_inflate 2 = .ok (.aload_n 2, 1) := dk_44 (dk_at dksJ15_inflate_0 2 rfl rfl)
theorem dJ15_inflate_3 : decode cJ15_inflate 3 = .ok (.iload_n 3, 1) := dk_29 (dk_at dksJ15_inflate_0 3 rfl rfl)
theorem dJ15_inflate_4 : decode cJ15_inflate 4 = .ok (.iload 4, 2) := dk_21 4 (dk_at dksJ15_inflate_0 4 rfl rfl)
theorem dJ15_inflate_6 : decode cJ15_inflate 6 = .ok (.invokestatic 240, 3) := dk_184 0 240 (dk_at dksJ15_inflate_0 6 rfl rfl)
theorem dJ15_inflate_9 : decode cJ15_inflate 9 = .ok (.return_, 1) := dk_177 (dk_at dksJ15_inflate_0 9 rfl rfl)
/-- java/lang/StringLatin1.inflate([BI[BII)V -/
def zb416 (G : zPg) (C : zO) (args : List Value) (Q : zQ) (Y : zY) (σ : zS) : Prop := ∃ (x1 : Option Nat) (x2 : Int32) (x3 : Option Nat) (x4 : Int32) (x5 : Int32), args = [va_rf x1, .int x2, va_rf x3, .int x4, .int x5] ∧ (zcl C 379 [va_rf x1, .int x2, va_rf x3, .int x4, .int x5] Y σ (zqV (fun s2 => Q none s2)))
set_option maxHeartbeats 4000000 in
theorem wk416 {l : Launch} {g : zG} {d : Nat} {C : zO} (hG : zGk g) (hC : zSound l g d C) {args : List Value} {Q : zQ} {Y : zY} {σ : zS} (hw : zb416 (zpg g) C args Q Y σ) : zMet l g (d + 1) (⟨"java/lang/StringLatin1", "inflate", "([BI[BII)V"⟩, Cond.code ⟨"java/lang/StringLatin1", "inflate", "([BI[BII)V"⟩ prog_47_method_50_code 5 (Option.none : Option FieldType)) args σ Q Y := by
  obtain ⟨x1, x2, x3, x4, x5, rfl, hw⟩ := hw
  refine zof hG (by decide +kernel) [false, false, false, false, false] ⟨(zc_rf _), rfl, (zc_rf _), rfl, rfl, trivial⟩ (Nat.le_of_ble_eq_true rfl) (ls := [some (va_rf x1), some (.int x2), some (va_rf x3), some (.int x4), some (.int x5)]) rfl ?_
  intro X hX hR hTb hd1 hd2 hl hg hnm
  subst hl
  subst hg
  have hd : zDep X d := ⟨hd1, hd2⟩
  refine z_aload_n hX dJ15_inflate_0 rfl (i := 0) rfl ?_
  refine z_iload_n hX dJ15_inflate_1 rfl (i := 1) rfl ?_
  refine z_aload_n hX dJ15_inflate_2 rfl (i := 2) rfl ?_
  refine z_iload_n hX dJ15_inflate_3 rfl (i := 3) rfl ?_
  refine z_iload hX dJ15_inflate_4 (i := 4) rfl ?_
  refine z_invS hX hd dJ15_inflate_6 (hC 379 _ zm379 _ _ _ _ hw) q1223 q1224 zh18 q1225 q147 zn379 rfl (Nat.le_of_ble_eq_true rfl) (st := []) rfl (zcs8 (Nat.le_of_ble_eq_true rfl)) rfl (zkV (fun s2 hw => ?_)) (zout hX hR hTb)
  exact z_return hX hR dJ15_inflate_9 hw
abbrev cJ15_canEncode : ByteArray := prog_47_method_3_code
def yJ15_canEncode : MethodName := ⟨RJ15, "canEncode", "(C)Z"⟩
def dkwJ15_canEncode_0 : List UInt8 := [26, 17, 0, 255, 163, 0, 7, 4, 167, 0, 4, 3, 172]
abbrev dktJ15_canEncode_0 : List UInt8 := dkwJ15_canEncode_0 ++ []
theorem dksJ15_canEncode_0 : cJ15_canEncode.data.toList.drop 0 = dktJ15_canEncode_0 := by decide +kernel
theorem dJ15_canEncode_0 : decode cJ15_canEncode 0 = .ok (.iload_n 0, 1) := dk_26 (dk_at dksJ15_canEncode_0 0 rfl rfl)
theorem dJ15_canEncode_1 : decode cJ15_canEncode 1 = .ok (.sipush 255, 3) := dk_17 0 255 (dk_at dksJ15_canEncode_0 1 rfl rfl)
theorem dJ15_canEncode_4 : decode cJ15_canEncode 4 = .ok (.if_icmp .gt 7, 3) := dk_163 0 7 (dk_at dksJ15_canEncode_0 4 rfl rfl)
theorem dJ15_canEncode_7 : decode cJ15_canEncode 7 = .ok (.iconst 1, 1) := dk_4 (dk_at dksJ15_canEncode_0 7 rfl rfl)
theorem dJ15_canEncode_8 : decode cJ15_canEncode 8 = .ok (.goto 4, 3) := dk_167 0 4 (dk_at dksJ15_canEncode_0 8 rfl rfl)
theorem dJ15_canEncode_11 : decode cJ15_canEncode 11 = .ok (.iconst 0, 1) := dk_3 (dk_at dksJ15_canEncode_0 11 rfl rfl)
theorem dJ15_canEncode_12 : decode cJ15_canEncode 12 = .ok (.ireturn, 1) := dk_172 (dk_at dksJ15_canEncode_0 12 rfl rfl)
/-- java/lang/StringLatin1.canEncode(C)Z -/
def zb417 (G : zPg) (C : zO) (args : List Value) (Q : zQ) (Y : zY) (σ : zS) : Prop := ∃ (x1 : Int32), args = [.int x1] ∧ (zJ (fun (p1 : Int32) (s2 : zS) => zbool p1 ∧ Q (some (.int p1)) s2) (fun (j3 : Int32 → zS → Prop) => (((255 : Int32) < x1) → j3 (0 : Int32) σ) ∧ ((¬ (255 : Int32) < x1) → j3 (1 : Int32) σ)))
set_option maxHeartbeats 4000000 in
theorem wk417 {l : Launch} {g : zG} {d : Nat} {C : zO} (hG : zGk g) (hC : zSound l g d C) {args : List Value} {Q : zQ} {Y : zY} {σ : zS} (hw : zb417 (zpg g) C args Q Y σ) : zMet l g (d + 1) (⟨"java/lang/StringLatin1", "canEncode", "(C)Z"⟩, Cond.code ⟨"java/lang/StringLatin1", "canEncode", "(C)Z"⟩ prog_47_method_3_code 1 (Option.some FieldType.boolean)) args σ Q Y := by
  obtain ⟨x1, rfl, hw⟩ := hw
  refine zof hG (by decide +kernel) [false] ⟨rfl, trivial⟩ (Nat.le_of_ble_eq_true rfl) (ls := [some (.int x1)]) rfl ?_
  intro X hX hR hTb hd1 hd2 hl hg hnm
  subst hl
  subst hg
  have hd : zDep X d := ⟨hd1, hd2⟩
  refine z_iload_n hX dJ15_canEncode_0 rfl (i := 0) rfl ?_
  refine z_sipush hX (v := (255 : Int32)) dJ15_canEncode_1 (by decide) ?_
  refine zJ_w (P := fun (j : Int32 → zS → Prop) => ∀ (p1 : Int32) (s2 : zS), j p1 s2 → zW X s2 12 [none] [.int p1]) hw (fun p1 s2 hw => ?_) (fun j3 hj3 hw => ?_)
  · exact z_ireturn hX hR dJ15_canEncode_12 (zn_z hw.1) hw.2
  · refine z_icmp_gt hX dJ15_canEncode_4 (tgt := 11) rfl (fun c4 => ?_) (fun c4 => ?_)
    · have hw := hw.1 c4
      refine z_iconst hX (v := (0 : Int32)) dJ15_canEncode_11 (by decide) ?_
      refine z_sub (ls' := [none]) (zsN (zs0)) ?_
      exact hj3 _ _ hw
    · have hw := hw.2 c4
      refine z_iconst hX (v := (1 : Int32)) dJ15_canEncode_7 (by decide) ?_
      refine z_goto hX dJ15_canEncode_8 (tgt := 12) rfl ?_
      refine z_sub (ls' := [none]) (zsN (zs0)) ?_
      exact hj3 _ _ hw
abbrev cJ15_equals : ByteArray := prog_47_method_13_code
def yJ15_equals : MethodName := ⟨RJ15, "equals", "([B[B)Z"⟩
def dkwJ15_equals_1 : List UInt8 := [3, 172, 132, 2, 1, 167, 255, 236, 4, 172, 3, 172]
abbrev dktJ15_equals_1 : List UInt8 := dkwJ15_equals_1 ++ []
def dkwJ15_equals_0 : List UInt8 := [42, 190, 43, 190, 160, 0, 30, 3, 61, 28, 42, 190, 162, 0, 20, 42, 28, 51, 43, 28, 51, 159, 0, 5]
abbrev dktJ15_equals_0 : List UInt8 := dkwJ15_equals_0 ++ dktJ15_equals_1
theorem dksJ15_equals_0 : cJ15_equals.data.toList.drop 0 = dktJ15_equals_0 := by decide +kernel
theorem dksJ15_equals_1 : cJ15_equals.data.toList.drop 24 = dktJ15_equals_1 := dk_seg dksJ15_equals_0 24 rfl rfl
theorem dJ15_equals_0 : decode cJ15_equals 0 = .ok (.aload_n 0, 1) := dk_42 (dk_at dksJ15_equals_0 0 rfl rfl)
theorem dJ15_equals_1 : decode cJ15_equals 1 = .ok (.arraylength, 1) := dk_190 (dk_at dksJ15_equals_0 1 rfl rfl)
theorem dJ15_equals_2 : decode cJ15_equals 2 = .ok (.aload_n 1, 1) := dk_43 (dk_at dksJ15_equals_0 2 rfl rfl)
theorem dJ15_equals_3 : decode cJ15_equals 3 = .ok (.arraylength, 1) := dk_190 (dk_at dksJ15_equals_0 3 rfl rfl)
theorem dJ15_equals_4 : decode cJ15_equals 4 = .ok (.if_icmp .ne 30, 3) := dk_160 0 30 (dk_at dksJ15_equals_0 4 rfl rfl)
theorem dJ15_equals_7 : decode cJ15_equals 7 = .ok (.iconst 0, 1) := dk_3 (dk_at dksJ15_equals_0 7 rfl rfl)
theorem dJ15_equals_8 : decode cJ15_equals 8 = .ok (.istore_n 2, 1) := dk_61 (dk_at dksJ15_equals_0 8 rfl rfl)
theorem dJ15_equals_9 : decode cJ15_equals 9 = .ok (.iload_n 2, 1) := dk_28 (dk_at dksJ15_equals_0 9 rfl rfl)
theorem dJ15_equals_10 : decode cJ15_equals 10 = .ok (.aload_n 0, 1) := dk_42 (dk_at dksJ15_equals_0 10 rfl rfl)
theorem dJ15_equals_11 : decode cJ15_equals 11 = .ok (.arraylength, 1) := dk_190 (dk_at dksJ15_equals_0 11 rfl rfl)
theorem dJ15_equals_12 : decode cJ15_equals 12 = .ok (.if_icmp .ge 20, 3) := dk_162 0 20 (dk_at dksJ15_equals_0 12 rfl rfl)
theorem dJ15_equals_15 : decode cJ15_equals 15 = .ok (.aload_n 0, 1) := dk_42 (dk_at dksJ15_equals_0 15 rfl rfl)
theorem dJ15_equals_16 : decode cJ15_equals 16 = .ok (.iload_n 2, 1) := dk_28 (dk_at dksJ15_equals_0 16 rfl rfl)
theorem dJ15_equals_17 : decode cJ15_equals 17 = .ok (.baload, 1) := dk_51 (dk_at dksJ15_equals_0 17 rfl rfl)
theorem dJ15_equals_18 : decode cJ15_equals 18 = .ok (.aload_n 1, 1) := dk_43 (dk_at dksJ15_equals_0 18 rfl rfl)
theorem dJ15_equals_19 : decode cJ15_equals 19 = .ok (.iload_n 2, 1) := dk_28 (dk_at dksJ15_equals_0 19 rfl rfl)
theorem dJ15_equals_20 : decode cJ15_equals 20 = .ok (.baload, 1) := dk_51 (dk_at dksJ15_equals_0 20 rfl rfl)
theorem dJ15_equals_21 : decode cJ15_equals 21 = .ok (.if_icmp .eq 5, 3) := dk_159 0 5 (dk_at dksJ15_equals_0 21 rfl rfl)
theorem dJ15_equals_24 : decode cJ15_equals 24 = .ok (.iconst 0, 1) := dk_3 (dk_at dksJ15_equals_1 0 rfl rfl)
theorem dJ15_equals_25 : decode cJ15_equals 25 = .ok (.ireturn, 1) := dk_172 (dk_at dksJ15_equals_1 1 rfl rfl)
theorem dJ15_equals_26 : decode cJ15_equals 26 = .ok (.iinc 2 1, 3) := dk_132 2 1 (dk_at dksJ15_equals_1 2 rfl rfl)
theorem dJ15_equals_29 : decode cJ15_equals 29 = .ok (.goto (-20), 3) := dk_167 255 236 (dk_at dksJ15_equals_1 5 rfl rfl)
theorem dJ15_equals_32 : decode cJ15_equals 32 = .ok (.iconst 1, 1) := dk_4 (dk_at dksJ15_equals_1 8 rfl rfl)
theorem dJ15_equals_33 : decode cJ15_equals 33 = .ok (.ireturn, 1) := dk_172 (dk_at dksJ15_equals_1 9 rfl rfl)
theorem dJ15_equals_34 : decode cJ15_equals 34 = .ok (.iconst 0, 1) := dk_3 (dk_at dksJ15_equals_1 10 rfl rfl)
theorem dJ15_equals_35 : decode cJ15_equals 35 = .ok (.ireturn, 1) := dk_172 (dk_at dksJ15_equals_1 11 rfl rfl)
/-- java/lang/StringLatin1.equals([B[B)Z -/
def zb418 (G : zPg) (C : zO) (args : List Value) (Q : zQ) (Y : zY) (σ : zS) : Prop := ∃ (x1 : Option Nat) (x2 : Option Nat), args = [va_rf x1, va_rf x2] ∧ (zln σ 2 x1 (fun v5 => zln σ 2 x2 (fun v11 => ((¬ v5 = v11) → zbool (0 : Int32) ∧ Q (some (.int (0 : Int32))) σ) ∧ ((v5 = v11) → ∃ n, zIt (fun _ _ => False) (fun rec16 (p14 : Int32) (s15 : zS) => zln s15 2 x1 (fun v21 => ((v21 ≤ p14) → zbool (1 : Int32) ∧ Q (some (.int (1 : Int32))) s15) ∧ ((¬ v21 ≤ p14) → zaI s15 2 x1 p14 (fun v30 => zaI s15 2 x2 p14 (fun v38 => ((v30 = v38) → (∀ v41 : Int32, v41 = p14 + (1 : Int32) → rec16 v41 s15)) ∧ ((¬ v30 = v38) → zbool (0 : Int32) ∧ Q (some (.int (0 : Int32))) s15)))))) n (0 : Int32) σ))))
set_option maxHeartbeats 4000000 in
theorem wk418 {l : Launch} {g : zG} {d : Nat} {C : zO} (hG : zGk g) (hC : zSound l g d C) {args : List Value} {Q : zQ} {Y : zY} {σ : zS} (hw : zb418 (zpg g) C args Q Y σ) : zMet l g (d + 1) (⟨"java/lang/StringLatin1", "equals", "([B[B)Z"⟩, Cond.code ⟨"java/lang/StringLatin1", "equals", "([B[B)Z"⟩ prog_47_method_13_code 3 (Option.some FieldType.boolean)) args σ Q Y := by
  obtain ⟨x1, x2, rfl, hw⟩ := hw
  refine zof hG (by decide +kernel) [false, false] ⟨(zc_rf _), (zc_rf _), trivial⟩ (Nat.le_of_ble_eq_true rfl) (ls := [some (va_rf x1), some (va_rf x2), none]) rfl ?_
  intro X hX hR hTb hd1 hd2 hl hg hnm
  subst hl
  subst hg
  have hd : zDep X d := ⟨hd1, hd2⟩
  refine z_aload_n hX dJ15_equals_0 rfl (i := 0) rfl ?_
  obtain ⟨a1, n2, r3, m4, hw⟩ := hw
  refine z_alen hX 2 dJ15_equals_1 r3 m4 ?_
  revert hw
  generalize nI n2.1 = v5
  intro hw
  refine z_aload_n hX dJ15_equals_2 rfl (i := 1) rfl ?_
  obtain ⟨a7, n8, r9, m10, hw⟩ := hw
  refine z_alen hX 2 dJ15_equals_3 r9 m10 ?_
  revert hw
  generalize nI n8.1 = v11
  intro hw
  refine z_icmp_ne hX dJ15_equals_4 (tgt := 34) rfl (fun c13 => ?_) (fun c13 => ?_)
  · have hw := hw.1 c13
    refine z_iconst hX (v := (0 : Int32)) dJ15_equals_34 (by decide) ?_
    exact z_ireturn hX hR dJ15_equals_35 (zn_z hw.1) hw.2
  · have hw := hw.2 c13
    refine z_iconst hX (v := (0 : Int32)) dJ15_equals_7 (by decide) ?_
    refine z_istore_n hX dJ15_equals_8 rfl (i := 2) (Nat.le_of_ble_eq_true rfl) (zc_rf _) (ls2 := [some (va_rf x1), some (va_rf x2), some (.int (0 : Int32))]) rfl ?_
    obtain ⟨n43, hw⟩ := hw
    refine zIt_w (P := fun (j : Int32 → zS → Prop) => ∀ (p14 : Int32) (s15 : zS), j p14 s15 → zW X s15 9 [some (va_rf x1), some (va_rf x2), some (.int p14)] []) (fun _ _ h => h.elim) (fun rec16 hrec16 p14 s15 hw => ?_) n43 _ _ hw
    refine z_iload_n hX dJ15_equals_9 rfl (i := 2) rfl ?_
    refine z_aload_n hX dJ15_equals_10 rfl (i := 0) rfl ?_
    obtain ⟨a17, n18, r19, m20, hw⟩ := hw
    refine z_alen hX 2 dJ15_equals_11 r19 m20 ?_
    revert hw
    generalize nI n18.1 = v21
    intro hw
    refine z_icmp_ge hX dJ15_equals_12 (tgt := 32) rfl (fun c23 => ?_) (fun c23 => ?_)
    · have hw := hw.1 c23
      refine z_iconst hX (v := (1 : Int32)) dJ15_equals_32 (by decide) ?_
      exact z_ireturn hX hR dJ15_equals_33 (zn_z hw.1) hw.2
    · have hw := hw.2 c23
      refine z_aload_n hX dJ15_equals_15 rfl (i := 0) rfl ?_
      refine z_iload_n hX dJ15_equals_16 rfl (i := 2) rfl ?_
      obtain ⟨a24, n25, f26, r27, m28, i29, hw⟩ := hw
      refine z_bald hX dJ15_equals_17 r27 m28 i29 ?_
      revert hw
      generalize f26 (Int32.toNatClampNeg p14) = v30
      intro hw
      refine z_aload_n hX dJ15_equals_18 rfl (i := 1) rfl ?_
      refine z_iload_n hX dJ15_equals_19 rfl (i := 2) rfl ?_
      obtain ⟨a32, n33, f34, r35, m36, i37, hw⟩ := hw
      refine z_bald hX dJ15_equals_20 r35 m36 i37 ?_
      revert hw
      generalize f34 (Int32.toNatClampNeg p14) = v38
      intro hw
      refine z_icmp_eq hX dJ15_equals_21 (tgt := 26) rfl (fun c40 => ?_) (fun c40 => ?_)
      · have hw := hw.1 c40
        obtain ⟨v41, e42⟩ : ∃ y : Int32, y = p14 + (1 : Int32) := ⟨_, rfl⟩
        refine z_iinc hX dJ15_equals_26 (i := 2) (v := v41) rfl (by rw [e42]; rfl) (Nat.le_of_ble_eq_true rfl) (zc_rf _) (ls2 := [some (va_rf x1), some (va_rf x2), some (.int v41)]) rfl ?_
        have hw := hw v41 e42
        refine z_goto hX dJ15_equals_29 (tgt := 9) rfl ?_
        exact hrec16 _ _ hw
      · have hw := hw.2 c40
        refine z_iconst hX (v := (0 : Int32)) dJ15_equals_24 (by decide) ?_
        exact z_ireturn hX hR dJ15_equals_25 (zn_z hw.1) hw.2
abbrev cJ15_compareTo : ByteArray := prog_47_method_14_code
def yJ15_compareTo : MethodName := ⟨RJ15, "compareTo", "([B[B)I"⟩
def dkwJ15_compareTo_0 : List UInt8 := [42, 190, 61, 43, 190, 62, 42, 43, 28, 29, 184, 0, 34, 172]
abbrev dktJ15_compareTo_0 : List UInt8 := dkwJ15_compareTo_0 ++ []
theorem dksJ15_compareTo_0 : cJ15_compareTo.data.toList.drop 0 = dktJ15_compareTo_0 := by decide +kernel
theorem dJ15_compareTo_0 : decode cJ15_compareTo 0 = .ok (.aload_n 0, 1) := dk_42 (dk_at dksJ15_compareTo_0 0 rfl rfl)
theorem dJ15_compareTo_1 : decode cJ15_compareTo 1 = .ok (.arraylength, 1) := dk_190 (dk_at dksJ15_compareTo_0 1 rfl rfl)
theorem dJ15_compareTo_2 : decode cJ15_compareTo 2 = .ok (.istore_n 2, 1) := dk_61 (dk_at dksJ15_compareTo_0 2 rfl rfl)
theorem dJ15_compareTo_3 : decode cJ15_compareTo 3 = .ok (.aload_n 1, 1) := dk_43 (dk_at dksJ15_compareTo_0 3 rfl rfl)
theorem dJ15_compareTo_4 : decode cJ15_compareTo 4 = .ok (.arraylength, 1) := dk_190 (dk_at dksJ15_compareTo_0 4 rfl rfl)
theorem dJ15_compareTo_5 : decode cJ15_compareTo 5 = .ok (.istore_n 3, 1) := dk_62 (dk_at dksJ15_compareTo_0 5 rfl rfl)
theorem dJ15_compareTo_6 : decode cJ15_compareTo 6 = .ok (.aload_n 0, 1) := dk_42 (dk_at dksJ15_compareTo_0 6 rfl rfl)
theorem dJ15_compareTo_7 : decode cJ15_compareTo 7 = .ok (.aload_n 1, 1) := dk_43 (dk_at dksJ15_compareTo_0 7 rfl rfl)
theorem dJ15_compareTo_8 : decode cJ15_compareTo 8 = .ok (.iload_n 2, 1) := dk_28 (dk_at dksJ15_compareTo_0 8 rfl rfl)
theorem dJ15_compareTo_9 : decode cJ15_compareTo 9 = .ok (.iload_n 3, 1) := dk_29 (dk_at dksJ15_compareTo_0 9 rfl rfl)
theorem dJ15_compareTo_10 : decode cJ15_compareTo 10 = .ok (.invokestatic 34, 3) := dk_184 0 34 (dk_at dksJ15_compareTo_0 10 rfl rfl)
theorem dJ15_compareTo_13 : decode cJ15_compareTo 13 = .ok (.ireturn, 1) := dk_172 (dk_at dksJ15_compareTo_0 13 rfl rfl)
/-- java/lang/StringLatin1.compareTo([B[B)I -/
def zb419 (G : zPg) (C : zO) (args : List Value) (Q : zQ) (Y : zY) (σ : zS) : Prop := ∃ (x1 : Option Nat) (x2 : Option Nat), args = [va_rf x1, va_rf x2] ∧ (zln σ 2 x1 (fun v5 => zln σ 2 x2 (fun v11 => zcl C 420 [va_rf x1, va_rf x2, .int v5, .int v11] Y σ (zqI (fun v13 s14 => Q (some (.int v13)) s14)))))
set_option maxHeartbeats 4000000 in
theorem wk419 {l : Launch} {g : zG} {d : Nat} {C : zO} (hG : zGk g) (hC : zSound l g d C) {args : List Value} {Q : zQ} {Y : zY} {σ : zS} (hw : zb419 (zpg g) C args Q Y σ) : zMet l g (d + 1) (⟨"java/lang/StringLatin1", "compareTo", "([B[B)I"⟩, Cond.code ⟨"java/lang/StringLatin1", "compareTo", "([B[B)I"⟩ prog_47_method_14_code 4 (Option.some FieldType.int)) args σ Q Y := by
  obtain ⟨x1, x2, rfl, hw⟩ := hw
  refine zof hG (by decide +kernel) [false, false] ⟨(zc_rf _), (zc_rf _), trivial⟩ (Nat.le_of_ble_eq_true rfl) (ls := [some (va_rf x1), some (va_rf x2), none, none]) rfl ?_
  intro X hX hR hTb hd1 hd2 hl hg hnm
  subst hl
  subst hg
  have hd : zDep X d := ⟨hd1, hd2⟩
  refine z_aload_n hX dJ15_compareTo_0 rfl (i := 0) rfl ?_
  obtain ⟨a1, n2, r3, m4, hw⟩ := hw
  refine z_alen hX 2 dJ15_compareTo_1 r3 m4 ?_
  revert hw
  generalize nI n2.1 = v5
  intro hw
  refine z_istore_n hX dJ15_compareTo_2 rfl (i := 2) (Nat.le_of_ble_eq_true rfl) (zc_rf _) (ls2 := [some (va_rf x1), some (va_rf x2), some (.int v5), none]) rfl ?_
  refine z_aload_n hX dJ15_compareTo_3 rfl (i := 1) rfl ?_
  obtain ⟨a7, n8, r9, m10, hw⟩ := hw
  refine z_alen hX 2 dJ15_compareTo_4 r9 m10 ?_
  revert hw
  generalize nI n8.1 = v11
  intro hw
  refine z_istore_n hX dJ15_compareTo_5 rfl (i := 3) (Nat.le_of_ble_eq_true rfl) rfl (ls2 := [some (va_rf x1), some (va_rf x2), some (.int v5), some (.int v11)]) rfl ?_
  refine z_aload_n hX dJ15_compareTo_6 rfl (i := 0) rfl ?_
  refine z_aload_n hX dJ15_compareTo_7 rfl (i := 1) rfl ?_
  refine z_iload_n hX dJ15_compareTo_8 rfl (i := 2) rfl ?_
  refine z_iload_n hX dJ15_compareTo_9 rfl (i := 3) rfl ?_
  refine z_invS hX hd dJ15_compareTo_10 (hC 420 _ zm420 _ _ _ _ hw) q1840 q1841 zh21 q1842 q151 zn420 rfl (Nat.le_of_ble_eq_true rfl) (st := []) rfl (zcs8 (Nat.le_of_ble_eq_true rfl)) rfl (zkI (fun v13 s14 hw => ?_)) (zout hX hR hTb)
  exact z_ireturn hX hR dJ15_compareTo_13 rfl hw
abbrev cJ15_compareTo_2 : ByteArray := prog_47_method_15_code
def yJ15_compareTo_2 : MethodName := ⟨RJ15, "compareTo", "([B[BII)I"⟩
def dkwJ15_compareTo_2_1 : List UInt8 := [167, 0, 16, 42, 21, 5, 184, 0, 50, 43, 21, 5, 184, 0, 50, 100, 172]
abbrev dktJ15_compareTo_2_1 : List UInt8 := dkwJ15_compareTo_2_1 ++ []
def dkwJ15_compareTo_2_0 : List UInt8 := [28, 29, 184, 0, 38, 54, 4, 42, 43, 21, 4, 184, 0, 44, 54, 5, 21, 5, 156, 0, 9, 28, 29, 100]
abbrev dktJ15_compareTo_2_0 : List UInt8 := dkwJ15_compareTo_2_0 ++ dktJ15_compareTo_2_1
theorem dksJ15_compareTo_2_0 : cJ15_compareTo_2.data.toList.drop 0 = dktJ15_compareTo_2_0 := by decide +kernel
theorem dksJ15_compareTo_2_1 : cJ15_compareTo_2.data.toList.drop 24 = dktJ15_compareTo_2_1 := dk_seg dksJ15_compareTo_2_0 24 rfl rfl
theorem dJ15_compareTo_2_0 : decode cJ15_compareTo_2 0 = .ok (.iload_n 2, 1) := dk_28 (dk_at dksJ15_compareTo_2_0 0 rfl rfl)
theorem dJ15_compareTo_2_1 : decode cJ15_compareTo_2 1 = .ok (.iload_n 3, 1) := dk_29 (dk_at dksJ15_compareTo_2_0 1 rfl rfl)
theorem dJ15_compareTo_2_2 : decode cJ15_compareTo_2 2 = .ok (.invokestatic 38, 3) := dk_184 0 38 (dk_at dksJ15_compareTo_2_0 2 rfl rfl)
theorem dJ15_compareTo_2_5 : decode cJ15_compareTo_2 5 = .ok (.istore 4, 2) := dk_54 4 (dk_at dksJ15_compareTo_2_0 5 rfl rfl)
theorem dJ15_compareTo_2_7 : decode cJ15_compareTo_2 7 = .ok (.aload_n 0, 1) := dk_42 (dk_at dksJ15_compareTo_2_0 7 rfl rfl)
theorem dJ15_compareTo_2_8 : decode cJ15_compareTo_2 8 = .ok (.aload_n 1, 1) := dk_43 (dk_at dksJ15_compareTo_2_0 8 rfl rfl)
theorem dJ15_compareTo_2_9 : decode cJ15_compareTo_2 9 = .ok (.iload 4, 2) := dk_21 4 (dk_at dksJ15_compareTo_2_0 9 rfl rfl)
theorem dJ15_compareTo_2_11 : decode cJ15_compareTo_2 11 = .ok (.invokestatic 44, 3) := dk_184 0 44 (dk_at dksJ15_compareTo_2_0 11 rfl rfl)
theorem dJ15_compareTo_2_14 : decode cJ15_compareTo_2 14 = .ok (.istore 5, 2) := dk_54 5 (dk_at dksJ15_compareTo_2_0 14 rfl rfl)
theorem dJ15_compareTo_2_16 : decode cJ15_compareTo_2 16 = .ok (.iload 5, 2) := dk_21 5 (dk_at dksJ15_compareTo_2_0 16 rfl rfl)
theorem dJ15_compareTo_2_18 : decode cJ15_compareTo_2 18 = .ok (.ifCond .ge 9, 3) := dk_156 0 9 (dk_at dksJ15_compareTo_2_0 18 rfl rfl)
theorem dJ15_compareTo_2_21 : decode cJ15_compareTo_2 21 = .ok (.iload_n 2, 1) := dk_28 (dk_at dksJ15_compareTo_2_0 21 rfl rfl)
theorem dJ15_compareTo_2_22 : decode cJ15_compareTo_2 22 = .ok (.iload_n 3, 1) := dk_29 (dk_at dksJ15_compareTo_2_0 22 rfl rfl)
theorem dJ15_compareTo_2_23 : decode cJ15_compareTo_2 23 = .ok (.isub, 1) := dk_100 (dk_at dksJ15_compareTo_2_0 23 rfl rfl)
theorem dJ15_compareTo_2_24 : decode cJ15_compareTo_2 24 = .ok (.goto 16, 3) := dk_167 0 16 (dk_at dksJ15_compareTo_2_1 0 rfl rfl)
theorem dJ15_compareTo_2_27 : decode cJ15_compareTo_2 27 = .ok (.aload_n 0, 1) := dk_42 (dk_at dksJ15_compareTo_2_1 3 rfl rfl)
theorem dJ15_compareTo_2_28 : decode cJ15_compareTo_2 28 = .ok (.iload 5, 2) := dk_21 5 (dk_at dksJ15_compareTo_2_1 4 rfl rfl)
theorem dJ15_compareTo_2_30 : decode cJ15_compareTo_2 30 = .ok (.invokestatic 50, 3) := dk_184 0 50 (dk_at dksJ15_compareTo_2_1 6 rfl rfl)
theorem dJ15_compareTo_2_33 : decode cJ15_compareTo_2 33 = .ok (.aload_n 1, 1) := dk_43 (dk_at dksJ15_compareTo_2_1 9 rfl rfl)
theorem dJ15_compareTo_2_34 : decode cJ15_compareTo_2 34 = .ok (.iload 5, 2) := dk_21 5 (dk_at dksJ15_compareTo_2_1 10 rfl rfl)
theorem dJ15_compareTo_2_36 : decode cJ15_compareTo_2 36 = .ok (.invokestatic 50, 3) := dk_184 0 50 (dk_at dksJ15_compareTo_2_1 12 rfl rfl)
theorem dJ15_compareTo_2_39 : decode cJ15_compareTo_2 39 = .ok (.isub, 1) := dk_100 (dk_at dksJ15_compareTo_2_1 15 rfl rfl)
theorem dJ15_compareTo_2_40 : decode cJ15_compareTo_2 40 = .ok (.ireturn, 1) := dk_172 (dk_at dksJ15_compareTo_2_1 16 rfl rfl)
/-- java/lang/StringLatin1.compareTo([B[BII)I -/
def zb420 (G : zPg) (C : zO) (args : List Value) (Q : zQ) (Y : zY) (σ : zS) : Prop := ∃ (x1 : Option Nat) (x2 : Option Nat) (x3 : Int32) (x4 : Int32), args = [va_rf x1, va_rf x2, .int x3, .int x4] ∧ (zcl C 295 [.int x3, .int x4] Y σ (zqI (fun v1 s2 => zcl C 397 [va_rf x1, va_rf x2, .int v1] Y s2 (zqI (fun v4 s5 => zJ (fun (p7 : Int32) (s8 : zS) => Q (some (.int p7)) s8) (fun (j9 : Int32 → zS → Prop) => ((0 ≤ v4) → zcl C 421 [va_rf x1, .int v4] Y s5 (zqI (fun v11 s12 => zcl C 421 [va_rf x2, .int v4] Y s12 (zqI (fun v14 s15 => j9 (v11 - v14) s15))))) ∧ ((¬ 0 ≤ v4) → j9 (x3 - x4) s5)))))))
set_option maxHeartbeats 4000000 in
theorem wk420 {l : Launch} {g : zG} {d : Nat} {C : zO} (hG : zGk g) (hC : zSound l g d C) {args : List Value} {Q : zQ} {Y : zY} {σ : zS} (hw : zb420 (zpg g) C args Q Y σ) : zMet l g (d + 1) (⟨"java/lang/StringLatin1", "compareTo", "([B[BII)I"⟩, Cond.code ⟨"java/lang/StringLatin1", "compareTo", "([B[BII)I"⟩ prog_47_method_15_code 6 (Option.some FieldType.int)) args σ Q Y := by
  obtain ⟨x1, x2, x3, x4, rfl, hw⟩ := hw
  refine zof hG (by decide +kernel) [false, false, false, false] ⟨(zc_rf _), (zc_rf _), rfl, rfl, trivial⟩ (Nat.le_of_ble_eq_true rfl) (ls := [some (va_rf x1), some (va_rf x2), some (.int x3), some (.int x4), none, none]) rfl ?_
  intro X hX hR hTb hd1 hd2 hl hg hnm
  subst hl
  subst hg
  have hd : zDep X d := ⟨hd1, hd2⟩
  refine z_iload_n hX dJ15_compareTo_2_0 rfl (i := 2) rfl ?_
  refine z_iload_n hX dJ15_compareTo_2_1 rfl (i := 3) rfl ?_
  refine z_invS hX hd dJ15_compareTo_2_2 (hC 295 _ zm295 _ _ _ _ hw) q1843 q479 zh8 q480 q137 zn295 rfl (Nat.le_of_ble_eq_true rfl) (st := []) rfl (zcs8 (Nat.le_of_ble_eq_true rfl)) rfl (zkI (fun v1 s2 hw => ?_)) (zout hX hR hTb)
  refine z_istore hX dJ15_compareTo_2_5 (i := 4) (Nat.le_of_ble_eq_true rfl) rfl (ls2 := [some (va_rf x1), some (va_rf x2), some (.int x3), some (.int x4), some (.int v1), none]) rfl ?_
  refine z_aload_n hX dJ15_compareTo_2_7 rfl (i := 0) rfl ?_
  refine z_aload_n hX dJ15_compareTo_2_8 rfl (i := 1) rfl ?_
  refine z_iload hX dJ15_compareTo_2_9 (i := 4) rfl ?_
  refine z_invS hX hd dJ15_compareTo_2_11 (hC 397 _ zm397 _ _ _ _ hw) q1844 q1845 zh19 q1846 q148 zn397 rfl (Nat.le_of_ble_eq_true rfl) (st := []) rfl (zcs8 (Nat.le_of_ble_eq_true rfl)) rfl (zkI (fun v4 s5 hw => ?_)) (zout hX hR hTb)
  refine z_istore hX dJ15_compareTo_2_14 (i := 5) (Nat.le_of_ble_eq_true rfl) rfl (ls2 := [some (va_rf x1), some (va_rf x2), some (.int x3), some (.int x4), some (.int v1), some (.int v4)]) rfl ?_
  refine z_iload hX dJ15_compareTo_2_16 (i := 5) rfl ?_
  refine zJ_w (P := fun (j : Int32 → zS → Prop) => ∀ (p7 : Int32) (s8 : zS), j p7 s8 → zW X s8 40 [none, none, none, none, none, none] [.int p7]) hw (fun p7 s8 hw => ?_) (fun j9 hj9 hw => ?_)
  · exact z_ireturn hX hR dJ15_compareTo_2_40 rfl hw
  · refine z_if_ge hX dJ15_compareTo_2_18 (tgt := 27) rfl (fun c10 => ?_) (fun c10 => ?_)
    · have hw := hw.1 c10
      refine z_aload_n hX dJ15_compareTo_2_27 rfl (i := 0) rfl ?_
      refine z_iload hX dJ15_compareTo_2_28 (i := 5) rfl ?_
      refine z_invS hX hd dJ15_compareTo_2_30 (hC 421 _ zm421 _ _ _ _ hw) q1945 q1946 zh21 q1947 q151 zn421 rfl (Nat.le_of_ble_eq_true rfl) (st := []) rfl (zcs8 (Nat.le_of_ble_eq_true rfl)) rfl (zkI (fun v11 s12 hw => ?_)) (zout hX hR hTb)
      refine z_aload_n hX dJ15_compareTo_2_33 rfl (i := 1) rfl ?_
      refine z_iload hX dJ15_compareTo_2_34 (i := 5) rfl ?_
      refine z_invS hX hd dJ15_compareTo_2_36 (hC 421 _ zm421 _ _ _ _ hw) q1945 q1946 zh21 q1947 q151 zn421 rfl (Nat.le_of_ble_eq_true rfl) (st := [.int v11]) rfl (zcs8 (Nat.le_of_ble_eq_true rfl)) rfl (zkI (fun v14 s15 hw => ?_)) (zout hX hR hTb)
      refine z_isub hX dJ15_compareTo_2_39 ?_
      refine z_sub (ls' := [none, none, none, none, none, none]) (zsN (zsN (zsN (zsN (zsN (zsN (zs0))))))) ?_
      exact hj9 _ _ hw
    · have hw := hw.2 c10
      refine z_iload_n hX dJ15_compareTo_2_21 rfl (i := 2) rfl ?_
      refine z_iload_n hX dJ15_compareTo_2_22 rfl (i := 3) rfl ?_
      refine z_isub hX dJ15_compareTo_2_23 ?_
      refine z_goto hX dJ15_compareTo_2_24 (tgt := 40) rfl ?_
      refine z_sub (ls' := [none, none, none, none, none, none]) (zsN (zsN (zsN (zsN (zsN (zsN (zs0))))))) ?_
      exact hj9 _ _ hw
abbrev cJ15_getChar : ByteArray := prog_47_method_44_code
def yJ15_getChar : MethodName := ⟨RJ15, "getChar", "([BI)C"⟩
def dkwJ15_getChar_0 : List UInt8 := [42, 27, 51, 17, 0, 255, 126, 146, 172]
abbrev dktJ15_getChar_0 : List UInt8 := dkwJ15_getChar_0 ++ []
theorem dksJ15_getChar_0 : cJ15_getChar.data.toList.drop 0 = dktJ15_getChar_0 := by decide +kernel
theorem dJ15_getChar_0 : decode cJ15_getChar 0 = .ok (.aload_n 0, 1) := dk_42 (dk_at dksJ15_getChar_0 0 rfl rfl)
theorem dJ15_getChar_1 : decode cJ15_getChar 1 = .ok (.iload_n 1, 1) := dk_27 (dk_at dksJ15_getChar_0 1 rfl rfl)
theorem dJ15_getChar_2 : decode cJ15_getChar 2 = .ok (.baload, 1) := dk_51 (dk_at dksJ15_getChar_0 2 rfl rfl)
theorem dJ15_getChar_3 : decode cJ15_getChar 3 = .ok (.sipush 255, 3) := dk_17 0 255 (dk_at dksJ15_getChar_0 3 rfl rfl)
theorem dJ15_getChar_6 : decode cJ15_getChar 6 = .ok (.iand, 1) := dk_126 (dk_at dksJ15_getChar_0 6 rfl rfl)
theorem dJ15_getChar_7 : decode cJ15_getChar 7 = .ok (.i2c, 1) := dk_146 (dk_at dksJ15_getChar_0 7 rfl rfl)
theorem dJ15_getChar_8 : decode cJ15_getChar 8 = .ok (.ireturn, 1) := dk_172 (dk_at dksJ15_getChar_0 8 rfl rfl)
/-- java/lang/StringLatin1.getChar([BI)C -/
def zb421 (G : zPg) (C : zO) (args : List Value) (Q : zQ) (Y : zY) (σ : zS) : Prop := ∃ (x1 : Option Nat) (x2 : Int32), args = [va_rf x1, .int x2] ∧ (zaI σ 2 x1 x2 (fun v7 => narrow .char (.int (((v7 &&& (255 : Int32)).toUInt32 % 65536).toInt32)) = .int (((v7 &&& (255 : Int32)).toUInt32 % 65536).toInt32) ∧ Q (some (.int (((v7 &&& (255 : Int32)).toUInt32 % 65536).toInt32))) σ))
set_option maxHeartbeats 4000000 in
theorem wk421 {l : Launch} {g : zG} {d : Nat} {C : zO} (hG : zGk g) (hC : zSound l g d C) {args : List Value} {Q : zQ} {Y : zY} {σ : zS} (hw : zb421 (zpg g) C args Q Y σ) : zMet l g (d + 1) (⟨"java/lang/StringLatin1", "getChar", "([BI)C"⟩, Cond.code ⟨"java/lang/StringLatin1", "getChar", "([BI)C"⟩ prog_47_method_44_code 2 (Option.some FieldType.char)) args σ Q Y := by
  obtain ⟨x1, x2, rfl, hw⟩ := hw
  refine zof hG (by decide +kernel) [false, false] ⟨(zc_rf _), rfl, trivial⟩ (Nat.le_of_ble_eq_true rfl) (ls := [some (va_rf x1), some (.int x2)]) rfl ?_
  intro X hX hR hTb hd1 hd2 hl hg hnm
  subst hl
  subst hg
  have hd : zDep X d := ⟨hd1, hd2⟩
  refine z_aload_n hX dJ15_getChar_0 rfl (i := 0) rfl ?_
  refine z_iload_n hX dJ15_getChar_1 rfl (i := 1) rfl ?_
  obtain ⟨a1, n2, f3, r4, m5, i6, hw⟩ := hw
  refine z_bald hX dJ15_getChar_2 r4 m5 i6 ?_
  revert hw
  generalize f3 (Int32.toNatClampNeg x2) = v7
  intro hw
  refine z_sipush hX (v := (255 : Int32)) dJ15_getChar_3 (by decide) ?_
  refine z_iand hX dJ15_getChar_6 ?_
  refine z_i2c hX dJ15_getChar_7 ?_
  exact z_ireturn hX hR dJ15_getChar_8 hw.1 hw.2
abbrev cJ15_compareToUTF16 : ByteArray := prog_47_method_16_code
def yJ15_compareToUTF16 : MethodName := ⟨RJ15, "compareToUTF16", "([B[B)I"⟩
def dkwJ15_compareToUTF16_0 : List UInt8 := [42, 184, 0, 54, 61, 43, 184, 0, 58, 62, 42, 43, 28, 29, 184, 0, 59, 172]
abbrev dktJ15_compareToUTF16_0 : List UInt8 := dkwJ15_compareToUTF16_0 ++ []
theorem dksJ15_compareToUTF16_0 : cJ15_compareToUTF16.data.toList.drop 0 = dktJ15_compareToUTF16_0 := by decide +kernel
theorem dJ15_compareToUTF16_0 : decode cJ15_compareToUTF16 0 = .ok (.aload_n 0, 1) := dk_42 (dk_at dksJ15_compareToUTF16_0 0 rfl rfl)
theorem dJ15_compareToUTF16_1 : decode cJ15_compareToUTF16 1 = .ok (.invokestatic 54, 3) := dk_184 0 54 (dk_at dksJ15_compareToUTF16_0 1 rfl rfl)
theorem dJ15_compareToUTF16_4 : decode cJ15_compareToUTF16 4 = .ok (.istore_n 2, 1) := dk_61 (dk_at dksJ15_compareToUTF16_0 4 rfl rfl)
theorem dJ15_compareToUTF16_5 : decode cJ15_compareToUTF16 5 = .ok (.aload_n 1, 1) := dk_43 (dk_at dksJ15_compareToUTF16_0 5 rfl rfl)
theorem dJ15_compareToUTF16_6 : decode cJ15_compareToUTF16 6 = .ok (.invokestatic 58, 3) := dk_184 0 58 (dk_at dksJ15_compareToUTF16_0 6 rfl rfl)
theorem dJ15_compareToUTF16_9 : decode cJ15_compareToUTF16 9 = .ok (.istore_n 3, 1) := dk_62 (dk_at dksJ15_compareToUTF16_0 9 rfl rfl)
theorem dJ15_compareToUTF16_10 : decode cJ15_compareToUTF16 10 = .ok (.aload_n 0, 1) := dk_42 (dk_at dksJ15_compareToUTF16_0 10 rfl rfl)
theorem dJ15_compareToUTF16_11 : decode cJ15_compareToUTF16 11 = .ok (.aload_n 1, 1) := dk_43 (dk_at dksJ15_compareToUTF16_0 11 rfl rfl)
theorem dJ15_compareToUTF16_12 : decode cJ15_compareToUTF16 12 = .ok (.iload_n 2, 1) := dk_28 (dk_at dksJ15_compareToUTF16_0 12 rfl rfl)
theorem dJ15_compareToUTF16_13 : decode cJ15_compareToUTF16 13 = .ok (.iload_n 3, 1) := dk_29 (dk_at dksJ15_compareToUTF16_0 13 rfl rfl)
theorem dJ15_compareToUTF16_14 : decode cJ15_compareToUTF16 14 = .ok (.invokestatic 59, 3) := dk_184 0 59 (dk_at dksJ15_compareToUTF16_0 14 rfl rfl)
theorem dJ15_compareToUTF16_17 : decode cJ15_compareToUTF16 17 = .ok (.ireturn, 1) := dk_172 (dk_at dksJ15_compareToUTF16_0 17 rfl rfl)
/-- java/lang/StringLatin1.compareToUTF16([B[B)I -/
def zb422 (G : zPg) (C : zO) (args : List Value) (Q : zQ) (Y : zY) (σ : zS) : Prop := ∃ (x1 : Option Nat) (x2 : Option Nat), args = [va_rf x1, va_rf x2] ∧ (zcl C 423 [va_rf x1] Y σ (zqI (fun v1 s2 => zcl C 372 [va_rf x2] Y s2 (zqI (fun v4 s5 => zcl C 424 [va_rf x1, va_rf x2, .int v1, .int v4] Y s5 (zqI (fun v7 s8 => Q (some (.int v7)) s8)))))))
set_option maxHeartbeats 4000000 in
theorem wk422 {l : Launch} {g : zG} {d : Nat} {C : zO} (hG : zGk g) (hC : zSound l g d C) {args : List Value} {Q : zQ} {Y : zY} {σ : zS} (hw : zb422 (zpg g) C args Q Y σ) : zMet l g (d + 1) (⟨"java/lang/StringLatin1", "compareToUTF16", "([B[B)I"⟩, Cond.code ⟨"java/lang/StringLatin1", "compareToUTF16", "([B[B)I"⟩ prog_47_method_16_code 4 (Option.some FieldType.int)) args σ Q Y := by
  obtain ⟨x1, x2, rfl, hw⟩ := hw
  refine zof hG (by decide +kernel) [false, false] ⟨(zc_rf _), (zc_rf _), trivial⟩ (Nat.le_of_ble_eq_true rfl) (ls := [some (va_rf x1), some (va_rf x2), none, none]) rfl ?_
  intro X hX hR hTb hd1 hd2 hl hg hnm
  subst hl
  subst hg
  have hd : zDep X d := ⟨hd1, hd2⟩
  refine z_aload_n hX dJ15_compareToUTF16_0 rfl (i := 0) rfl ?_
  refine z_invS hX hd dJ15_compareToUTF16_1 (hC 423 _ zm423 _ _ _ _ hw) q1958 q1959 zh21 q1960 q151 zn423 rfl (Nat.le_of_ble_eq_true rfl) (st := []) rfl (zcs8 (Nat.le_of_ble_eq_true rfl)) rfl (zkI (fun v1 s2 hw => ?_)) (zout hX hR hTb)
  refine z_istore_n hX dJ15_compareToUTF16_4 rfl (i := 2) (Nat.le_of_ble_eq_true rfl) (zc_rf _) (ls2 := [some (va_rf x1), some (va_rf x2), some (.int v1), none]) rfl ?_
  refine z_aload_n hX dJ15_compareToUTF16_5 rfl (i := 1) rfl ?_
  refine z_invS hX hd dJ15_compareToUTF16_6 (hC 372 _ zm372 _ _ _ _ hw) q1961 q1041 zh18 q1042 q147 zn372 rfl (Nat.le_of_ble_eq_true rfl) (st := []) rfl (zcs8 (Nat.le_of_ble_eq_true rfl)) rfl (zkI (fun v4 s5 hw => ?_)) (zout hX hR hTb)
  refine z_istore_n hX dJ15_compareToUTF16_9 rfl (i := 3) (Nat.le_of_ble_eq_true rfl) rfl (ls2 := [some (va_rf x1), some (va_rf x2), some (.int v1), some (.int v4)]) rfl ?_
  refine z_aload_n hX dJ15_compareToUTF16_10 rfl (i := 0) rfl ?_
  refine z_aload_n hX dJ15_compareToUTF16_11 rfl (i := 1) rfl ?_
  refine z_iload_n hX dJ15_compareToUTF16_12 rfl (i := 2) rfl ?_
  refine z_iload_n hX dJ15_compareToUTF16_13 rfl (i := 3) rfl ?_
  refine z_invS hX hd dJ15_compareToUTF16_14 (hC 424 _ zm424 _ _ _ _ hw) q1962 q1963 zh21 q1964 q151 zn424 rfl (Nat.le_of_ble_eq_true rfl) (st := []) rfl (zcs8 (Nat.le_of_ble_eq_true rfl)) rfl (zkI (fun v7 s8 hw => ?_)) (zout hX hR hTb)
  exact z_ireturn hX hR dJ15_compareToUTF16_17 rfl hw
abbrev cJ15_length : ByteArray := prog_47_method_5_code
def yJ15_length : MethodName := ⟨RJ15, "length", "([B)I"⟩
theorem dJ15_length_0 : decode cJ15_length 0 = .ok (.aload_n 0, 1) := by decide +kernel
theorem dJ15_length_1 : decode cJ15_length 1 = .ok (.arraylength, 1) := by decide +kernel
theorem dJ15_length_2 : decode cJ15_length 2 = .ok (.ireturn, 1) := by decide +kernel
/-- java/lang/StringLatin1.length([B)I -/
def zb423 (G : zPg) (C : zO) (args : List Value) (Q : zQ) (Y : zY) (σ : zS) : Prop := ∃ (x1 : Option Nat), args = [va_rf x1] ∧ (zln σ 2 x1 (fun v5 => Q (some (.int v5)) σ))
set_option maxHeartbeats 4000000 in
theorem wk423 {l : Launch} {g : zG} {d : Nat} {C : zO} (hG : zGk g) (hC : zSound l g d C) {args : List Value} {Q : zQ} {Y : zY} {σ : zS} (hw : zb423 (zpg g) C args Q Y σ) : zMet l g (d + 1) (⟨"java/lang/StringLatin1", "length", "([B)I"⟩, Cond.code ⟨"java/lang/StringLatin1", "length", "([B)I"⟩ prog_47_method_5_code 1 (Option.some FieldType.int)) args σ Q Y := by
  obtain ⟨x1, rfl, hw⟩ := hw
  refine zof hG (by decide +kernel) [false] ⟨(zc_rf _), trivial⟩ (Nat.le_of_ble_eq_true rfl) (ls := [some (va_rf x1)]) rfl ?_
  intro X hX hR hTb hd1 hd2 hl hg hnm
  subst hl
  subst hg
  have hd : zDep X d := ⟨hd1, hd2⟩
  refine z_aload_n hX dJ15_length_0 rfl (i := 0) rfl ?_
  obtain ⟨a1, n2, r3, m4, hw⟩ := hw
  refine z_alen hX 2 dJ15_length_1 r3 m4 ?_
  revert hw
  generalize nI n2.1 = v5
  intro hw
  exact z_ireturn hX hR dJ15_length_2 rfl hw
abbrev cJ15_compareToUTF16Values : ByteArray := prog_47_method_18_code
def yJ15_compareToUTF16Values : MethodName := ⟨RJ15, "compareToUTF16Values", "([B[BII)I"⟩
def dkwJ15_compareToUTF16Values_2 : List UInt8 := [132, 5, 1, 167, 255, 217, 28, 29, 100, 172]
abbrev dktJ15_compareToUTF16Values_2 : List UInt8 := dkwJ15_compareToUTF16Values_2 ++ []
def dkwJ15_compareToUTF16Values_1 : List UInt8 := [54, 6, 43, 21, 5, 184, 0, 65, 54, 7, 21, 6, 21, 7, 159, 0, 9, 21, 6, 21, 7, 100, 172]
abbrev dktJ15_compareToUTF16Values_1 : List UInt8 := dkwJ15_compareToUTF16Values_1 ++ dktJ15_compareToUTF16Values_2
def dkwJ15_compareToUTF16Values_0 : List UInt8 := [28, 29, 184, 0, 38, 54, 4, 3, 54, 5, 21, 5, 21, 4, 162, 0, 38, 42, 21, 5, 184, 0, 50]
abbrev dktJ15_compareToUTF16Values_0 : List UInt8 := dkwJ15_compareToUTF16Values_0 ++ dktJ15_compareToUTF16Values_1
theorem dksJ15_compareToUTF16Values_0 : cJ15_compareToUTF16Values.data.toList.drop 0 = dktJ15_compareToUTF16Values_0 := by decide +kernel
theorem dksJ15_compareToUTF16Values_1 : cJ15_compareToUTF16Values.data.toList.drop 23 = dktJ15_compareToUTF16Values_1 := dk_seg dksJ15_compareToUTF16Values_0 23 rfl rfl
theorem dksJ15_compareToUTF16Values_2 : cJ15_compareToUTF16Values.data.toList.drop 46 = dktJ15_compareToUTF16Values_2 := dk_seg dksJ15_compareToUTF16Values_1 23 rfl rfl
theorem dJ15_compareToUTF16Values_0 : decode cJ15_compareToUTF16Values 0 = .ok (.iload_n 2, 1) := dk_28 (dk_at dksJ15_compareToUTF16Values_0 0 rfl rfl)
theorem dJ15_compareToUTF16Values_1 : decode cJ15_compareToUTF16Values 1 = .ok (.iload_n 3, 1) := dk_29 (dk_at dksJ15_compareToUTF16Values_0 1 rfl rfl)
theorem dJ15_compareToUTF16Values_2 : decode cJ15_compareToUTF16Values 2 = .ok (.invokestatic 38, 3) := dk_184 0 38 (dk_at dksJ15_compareToUTF16Values_0 2 rfl rfl)
theorem dJ15_compareToUTF16Values_5 : decode cJ15_compareToUTF16Values 5 = .ok (.istore 4, 2) := dk_54 4 (dk_at dksJ15_compareToUTF16Values_0 5 rfl rfl)
theorem dJ15_compareToUTF16Values_7 : decode cJ15_compareToUTF16Values 7 = .ok (.iconst 0, 1) := dk_3 (dk_at dksJ15_compareToUTF16Values_0 7 rfl rfl)
theorem dJ15_compareToUTF16Values_8 : decode cJ15_compareToUTF16Values 8 = .ok (.istore 5, 2) := dk_54 5 (dk_at dksJ15_compareToUTF16Values_0 8 rfl rfl)
theorem dJ15_compareToUTF16Values_10 : decode cJ15_compareToUTF16Values 10 = .ok (.iload 5, 2) := dk_21 5 (dk_at dksJ15_compareToUTF16Values_0 10 rfl rfl)
theorem dJ15_compareToUTF16Values_12 : decode cJ15_compareToUTF16Values 12 = .ok (.iload 4, 2) := dk_21 4 (dk_at dksJ15_compareToUTF16Values_0 12 rfl rfl)
theorem dJ15_compareToUTF16Values_14 : decode cJ15_compareToUTF16Values 14 = .ok (.if_icmp .ge 38, 3) := dk_162 0 38 (dk_at dksJ15_compareToUTF16Values_0 14 rfl rfl)
theorem dJ15_compareToUTF16Values_17 : decode cJ15_compareToUTF16Values 17 = .ok (.aload_n 0, 1) := dk_42 (dk_at dksJ15_compareToUTF16Values_0 17 rfl rfl)
theorem dJ15_compareToUTF16Values_18 : decode cJ15_compareToUTF16Values 18 = .ok (.iload 5, 2) := dk_21 5 (dk_at dksJ15_compareToUTF16Values_0 18 rfl rfl)
theorem dJ15_compareToUTF16Values_20 : decode cJ15_compareToUTF16Values 20 = .ok (.invokestatic 50, 3) := dk_184 0 50 (dk_at dksJ15_compareToUTF16Values_0 20 rfl rfl)
theorem dJ15_compareToUTF16Values_23 : decode cJ15_compareToUTF16Values 23 = .ok (.istore 6, 2) := dk_54 6 (dk_at dksJ15_compareToUTF16Values_1 0 rfl rfl)
theorem dJ15_compareToUTF16Values_25 : decode cJ15_compareToUTF16Values 25 = .ok (.aload_n 1, 1) := dk_43 (dk_at dksJ15_compareToUTF16Values_1 2 rfl rfl)
theorem dJ15_compareToUTF16Values_26 : decode cJ15_compareToUTF16Values 26 = .ok (.iload 5, 2) := dk_21 5 (dk_at dksJ15_compareToUTF16Values_1 3 rfl rfl)
theorem dJ15_compareToUTF16Values_28 : decode cJ15_compareToUTF16Values 28 = .ok (.invokestatic 65, 3) := dk_184 0 65 (dk_at dksJ15_compareToUTF16Values_1 5 rfl rfl)
theorem dJ15_compareToUTF16Values_31 : decode cJ15_compareToUTF16Values 31 = .ok (.istore 7, 2) := dk_54 7 (dk_at dksJ15_compareToUTF16Values_1 8 rfl rfl)
theorem dJ15_compareToUTF16Values_33 : decode cJ15_compareToUTF16Values 33 = .ok (.iload 6, 2) := dk_21 6 (dk_at dksJ15_compareToUTF16Values_1 10 rfl rfl)
theorem dJ15_compareToUTF16Values_35 : decode cJ15_compareToUTF16Values 35 = .ok (.iload 7, 2) := dk_21 7 (dk_at dksJ15_compareToUTF16Values_1 12 rfl rfl)
theorem dJ15_compareToUTF16Values_37 : decode cJ15_compareToUTF16Values 37 = .ok (.if_icmp .eq 9, 3) := dk_159 0 9 (dk_at dksJ15_compareToUTF16Values_1 14 rfl rfl)
theorem dJ15_compareToUTF16Values_40 : decode cJ15_compareToUTF16Values 40 = .ok (.iload 6, 2) := dk_21 6 (dk_at dksJ15_compareToUTF16Values_1 17 rfl rfl)
theorem dJ15_compareToUTF16Values_42 : decode cJ15_compareToUTF16Values 42 = .ok (.iload 7, 2) := dk_21 7 (dk_at dksJ15_compareToUTF16Values_1 19 rfl rfl)
theorem dJ15_compareToUTF16Values_44 : decode cJ15_compareToUTF16Values 44 = .ok (.isub, 1) := dk_100 (dk_at dksJ15_compareToUTF16Values_1 21 rfl rfl)
theorem dJ15_compareToUTF16Values_45 : decode cJ15_compareToUTF16Values 45 = .ok (.ireturn, 1) := dk_172 (dk_at dksJ15_compareToUTF16Values_1 22 rfl rfl)
theorem dJ15_compareToUTF16Values_46 : decode cJ15_compareToUTF16Values 46 = .ok (.iinc 5 1, 3) := dk_132 5 1 (dk_at dksJ15_compareToUTF16Values_2 0 rfl rfl)
theorem dJ15_compareToUTF16Values_49 : decode cJ15_compareToUTF16Values 49 = .ok (.goto (-39), 3) := dk_167 255 217 (dk_at dksJ15_compareToUTF16Values_2 3 rfl rfl)
theorem dJ15_compareToUTF16Values_52 : decode cJ15_compareToUTF16Values 52 = .ok (.iload_n 2, 1) := dk_28 (dk_at dksJ15_compareToUTF16Values_2 6 rfl rfl)
theorem dJ15_compareToUTF16Values_53 : decode cJ15_compareToUTF16Values 53 = .ok (.iload_n 3, 1) := dk_29 (dk_at dksJ15_compareToUTF16Values_2 7 rfl rfl)
theorem dJ15_compareToUTF16Values_54 : decode cJ15_compareToUTF16Values 54 = .ok (.isub, 1) := dk_100 (dk_at dksJ15_compareToUTF16Values_2 8 rfl rfl)
theorem dJ15_compareToUTF16Values_55 : decode cJ15_compareToUTF16Values 55 = .ok (.ireturn, 1) := dk_172 (dk_at dksJ15_compareToUTF16Values_2 9 rfl rfl)
/-- java/lang/StringLatin1.compareToUTF16Values([B[BII)I -/
def zb424 (G : zPg) (C : zO) (args : List Value) (Q : zQ) (Y : zY) (σ : zS) : Prop := ∃ (x1 : Option Nat) (x2 : Option Nat) (x3 : Int32) (x4 : Int32), args = [va_rf x1, va_rf x2, .int x3, .int x4] ∧ (zcl C 295 [.int x3, .int x4] Y σ (zqI (fun v1 s2 => ∃ n, zIt (fun _ _ => False) (fun rec6 (p4 : Int32) (s5 : zS) => ((v1 ≤ p4) → Q (some (.int (x3 - x4))) s5) ∧ ((¬ v1 ≤ p4) → zcl C 421 [va_rf x1, .int p4] Y s5 (zqI (fun v8 s9 => zcl C 373 [va_rf x2, .int p4] Y s9 (zqI (fun v11 s12 => ((v8 = v11) → (∀ v15 : Int32, v15 = p4 + (1 : Int32) → rec6 v15 s12)) ∧ ((¬ v8 = v11) → Q (some (.int (v8 - v11))) s12))))))) n (0 : Int32) s2)))
set_option maxHeartbeats 4000000 in
theorem wk424 {l : Launch} {g : zG} {d : Nat} {C : zO} (hG : zGk g) (hC : zSound l g d C) {args : List Value} {Q : zQ} {Y : zY} {σ : zS} (hw : zb424 (zpg g) C args Q Y σ) : zMet l g (d + 1) (⟨"java/lang/StringLatin1", "compareToUTF16Values", "([B[BII)I"⟩, Cond.code ⟨"java/lang/StringLatin1", "compareToUTF16Values", "([B[BII)I"⟩ prog_47_method_18_code 8 (Option.some FieldType.int)) args σ Q Y := by
  obtain ⟨x1, x2, x3, x4, rfl, hw⟩ := hw
  refine zof hG (by decide +kernel) [false, false, false, false] ⟨(zc_rf _), (zc_rf _), rfl, rfl, trivial⟩ (Nat.le_of_ble_eq_true rfl) (ls := [some (va_rf x1), some (va_rf x2), some (.int x3), some (.int x4), none, none, none, none]) rfl ?_
  intro X hX hR hTb hd1 hd2 hl hg hnm
  subst hl
  subst hg
  have hd : zDep X d := ⟨hd1, hd2⟩
  refine z_iload_n hX dJ15_compareToUTF16Values_0 rfl (i := 2) rfl ?_
  refine z_iload_n hX dJ15_compareToUTF16Values_1 rfl (i := 3) rfl ?_
  refine z_invS hX hd dJ15_compareToUTF16Values_2 (hC 295 _ zm295 _ _ _ _ hw) q1843 q479 zh8 q480 q137 zn295 rfl (Nat.le_of_ble_eq_true rfl) (st := []) rfl (zcs8 (Nat.le_of_ble_eq_true rfl)) rfl (zkI (fun v1 s2 hw => ?_)) (zout hX hR hTb)
  refine z_istore hX dJ15_compareToUTF16Values_5 (i := 4) (Nat.le_of_ble_eq_true rfl) rfl (ls2 := [some (va_rf x1), some (va_rf x2), some (.int x3), some (.int x4), some (.int v1), none, none, none]) rfl ?_
  refine z_iconst hX (v := (0 : Int32)) dJ15_compareToUTF16Values_7 (by decide) ?_
  refine z_istore hX dJ15_compareToUTF16Values_8 (i := 5) (Nat.le_of_ble_eq_true rfl) rfl (ls2 := [some (va_rf x1), some (va_rf x2), some (.int x3), some (.int x4), some (.int v1), some (.int (0 : Int32)), none, none]) rfl ?_
  obtain ⟨n17, hw⟩ := hw
  refine zIt_w (P := fun (j : Int32 → zS → Prop) => ∀ (p4 : Int32) (s5 : zS), j p4 s5 → zW X s5 10 [some (va_rf x1), some (va_rf x2), some (.int x3), some (.int x4), some (.int v1), some (.int p4), none, none] []) (fun _ _ h => h.elim) (fun rec6 hrec6 p4 s5 hw => ?_) n17 _ _ hw
  refine z_iload hX dJ15_compareToUTF16Values_10 (i := 5) rfl ?_
  refine z_iload hX dJ15_compareToUTF16Values_12 (i := 4) rfl ?_
  refine z_icmp_ge hX dJ15_compareToUTF16Values_14 (tgt := 52) rfl (fun c7 => ?_) (fun c7 => ?_)
  · have hw := hw.1 c7
    refine z_iload_n hX dJ15_compareToUTF16Values_52 rfl (i := 2) rfl ?_
    refine z_iload_n hX dJ15_compareToUTF16Values_53 rfl (i := 3) rfl ?_
    refine z_isub hX dJ15_compareToUTF16Values_54 ?_
    exact z_ireturn hX hR dJ15_compareToUTF16Values_55 rfl hw
  · have hw := hw.2 c7
    refine z_aload_n hX dJ15_compareToUTF16Values_17 rfl (i := 0) rfl ?_
    refine z_iload hX dJ15_compareToUTF16Values_18 (i := 5) rfl ?_
    refine z_invS hX hd dJ15_compareToUTF16Values_20 (hC 421 _ zm421 _ _ _ _ hw) q1945 q1946 zh21 q1947 q151 zn421 rfl (Nat.le_of_ble_eq_true rfl) (st := []) rfl (zcs8 (Nat.le_of_ble_eq_true rfl)) rfl (zkI (fun v8 s9 hw => ?_)) (zout hX hR hTb)
    refine z_istore hX dJ15_compareToUTF16Values_23 (i := 6) (Nat.le_of_ble_eq_true rfl) rfl (ls2 := [some (va_rf x1), some (va_rf x2), some (.int x3), some (.int x4), some (.int v1), some (.int p4), some (.int v8), none]) rfl ?_
    refine z_aload_n hX dJ15_compareToUTF16Values_25 rfl (i := 1) rfl ?_
    refine z_iload hX dJ15_compareToUTF16Values_26 (i := 5) rfl ?_
    refine z_invS hX hd dJ15_compareToUTF16Values_28 (hC 373 _ zm373 _ _ _ _ hw) q1965 q1045 zh18 q1046 q147 zn373 rfl (Nat.le_of_ble_eq_true rfl) (st := []) rfl (zcs8 (Nat.le_of_ble_eq_true rfl)) rfl (zkI (fun v11 s12 hw => ?_)) (zout hX hR hTb)
    refine z_istore hX dJ15_compareToUTF16Values_31 (i := 7) (Nat.le_of_ble_eq_true rfl) rfl (ls2 := [some (va_rf x1), some (va_rf x2), some (.int x3), some (.int x4), some (.int v1), some (.int p4), some (.int v8), some (.int v11)]) rfl ?_
    refine z_iload hX dJ15_compareToUTF16Values_33 (i := 6) rfl ?_
    refine z_iload hX dJ15_compareToUTF16Values_35 (i := 7) rfl ?_
    refine z_icmp_eq hX dJ15_compareToUTF16Values_37 (tgt := 46) rfl (fun c14 => ?_) (fun c14 => ?_)
    · have hw := hw.1 c14
      obtain ⟨v15, e16⟩ : ∃ y : Int32, y = p4 + (1 : Int32) := ⟨_, rfl⟩
      refine z_iinc hX dJ15_compareToUTF16Values_46 (i := 5) (v := v15) rfl (by rw [e16]; rfl) (Nat.le_of_ble_eq_true rfl) rfl (ls2 := [some (va_rf x1), some (va_rf x2), some (.int x3), some (.int x4), some (.int v1), some (.int v15), some (.int v8), some (.int v11)]) rfl ?_
      have hw := hw v15 e16
      refine z_goto hX dJ15_compareToUTF16Values_49 (tgt := 10) rfl ?_
      refine z_sub (ls' := [some (va_rf x1), some (va_rf x2), some (.int x3), some (.int x4), some (.int v1), some (.int v15), none, none]) (zsS (zsS (zsS (zsS (zsS (zsS (zsN (zsN (zs0))))))))) ?_
      exact hrec6 _ _ hw
    · have hw := hw.2 c14
      refine z_iload hX dJ15_compareToUTF16Values_40 (i := 6) rfl ?_
      refine z_iload hX dJ15_compareToUTF16Values_42 (i := 7) rfl ?_
      refine z_isub hX dJ15_compareToUTF16Values_44 ?_
      exact z_ireturn hX hR dJ15_compareToUTF16Values_45 rfl hw
abbrev cJ15_compareToUTF16_2 : ByteArray := prog_47_method_17_code
def yJ15_compareToUTF16_2 : MethodName := ⟨RJ15, "compareToUTF16", "([B[BII)I"⟩
def dkwJ15_compareToUTF16_2_0 : List UInt8 := [28, 42, 184, 0, 54, 184, 0, 62, 29, 43, 184, 0, 58, 184, 0, 62, 42, 43, 28, 29, 184, 0, 59, 172]
abbrev dktJ15_compareToUTF16_2_0 : List UInt8 := dkwJ15_compareToUTF16_2_0 ++ []
theorem dksJ15_compareToUTF16_2_0 : cJ15_compareToUTF16_2.data.toList.drop 0 = dktJ15_compareToUTF16_2_0 := by decide +kernel
theorem dJ15_compareToUTF16_2_0 : decode cJ15_compareToUTF16_2 0 = .ok (.iload_n 2, 1) := dk_28 (dk_at dksJ15_compareToUTF16_2_0 0 rfl rfl)
theorem dJ15_compareToUTF16_2_1 : decode cJ15_compareToUTF16_2 1 = .ok (.aload_n 0, 1) := dk_42 (dk_at dksJ15_compareToUTF16_2_0 1 rfl rfl)
theorem dJ15_compareToUTF16_2_2 : decode cJ15_compareToUTF16_2 2 = .ok (.invokestatic 54, 3) := dk_184 0 54 (dk_at dksJ15_compareToUTF16_2_0 2 rfl rfl)
theorem dJ15_compareToUTF16_2_5 : decode cJ15_compareToUTF16_2 5 = .ok (.invokestatic 62, 3) := dk_184 0 62 (dk_at dksJ15_compareToUTF16_2_0 5 rfl rfl)
theorem dJ15_compareToUTF16_2_8 : decode cJ15_compareToUTF16_2 8 = .ok (.iload_n 3, 1) := dk_29 (dk_at dksJ15_compareToUTF16_2_0 8 rfl rfl)
theorem dJ15_compareToUTF16_2_9 : decode cJ15_compareToUTF16_2 9 = .ok (.aload_n 1, 1) := dk_43 (dk_at dksJ15_compareToUTF16_2_0 9 rfl rfl)
theorem dJ15_compareToUTF16_2_10 : decode cJ15_compareToUTF16_2 10 = .ok (.invokestatic 58, 3) := dk_184 0 58 (dk_at dksJ15_compareToUTF16_2_0 10 rfl rfl)
theorem dJ15_compareToUTF16_2_13 : decode cJ15_compareToUTF16_2 13 = .ok (.invokestatic 62, 3) := dk_184 0 62 (dk_at dksJ15_compareToUTF16_2_0 13 rfl rfl)
theorem dJ15_compareToUTF16_2_16 : decode cJ15_compareToUTF16_2 16 = .ok (.aload_n 0, 1) := dk_42 (dk_at dksJ15_compareToUTF16_2_0 16 rfl rfl)
theorem dJ15_compareToUTF16_2_17 : decode cJ15_compareToUTF16_2 17 = .ok (.aload_n 1, 1) := dk_43 (dk_at dksJ15_compareToUTF16_2_0 17 rfl rfl)
theorem dJ15_compareToUTF16_2_18 : decode cJ15_compareToUTF16_2 18 = .ok (.iload_n 2, 1) := dk_28 (dk_at dksJ15_compareToUTF16_2_0 18 rfl rfl)
theorem dJ15_compareToUTF16_2_19 : decode cJ15_compareToUTF16_2 19 = .ok (.iload_n 3, 1) := dk_29 (dk_at dksJ15_compareToUTF16_2_0 19 rfl rfl)
theorem dJ15_compareToUTF16_2_20 : decode cJ15_compareToUTF16_2 20 = .ok (.invokestatic 59, 3) := dk_184 0 59 (dk_at dksJ15_compareToUTF16_2_0 20 rfl rfl)
theorem dJ15_compareToUTF16_2_23 : decode cJ15_compareToUTF16_2 23 = .ok (.ireturn, 1) := dk_172 (dk_at dksJ15_compareToUTF16_2_0 23 rfl rfl)
/-- java/lang/StringLatin1.compareToUTF16([B[BII)I -/
def zb425 (G : zPg) (C : zO) (args : List Value) (Q : zQ) (Y : zY) (σ : zS) : Prop := ∃ (x1 : Option Nat) (x2 : Option Nat) (x3 : Int32) (x4 : Int32), args = [va_rf x1, va_rf x2, .int x3, .int x4] ∧ (zcl C 423 [va_rf x1] Y σ (zqI (fun v1 s2 => zcl C 368 [.int x3, .int v1] Y s2 (zqV (fun s5 => zcl C 372 [va_rf x2] Y s5 (zqI (fun v7 s8 => zcl C 368 [.int x4, .int v7] Y s8 (zqV (fun s11 => zcl C 424 [va_rf x1, va_rf x2, .int x3, .int x4] Y s11 (zqI (fun v13 s14 => Q (some (.int v13)) s14)))))))))))
set_option maxHeartbeats 4000000 in
theorem wk425 {l : Launch} {g : zG} {d : Nat} {C : zO} (hG : zGk g) (hC : zSound l g d C) {args : List Value} {Q : zQ} {Y : zY} {σ : zS} (hw : zb425 (zpg g) C args Q Y σ) : zMet l g (d + 1) (⟨"java/lang/StringLatin1", "compareToUTF16", "([B[BII)I"⟩, Cond.code ⟨"java/lang/StringLatin1", "compareToUTF16", "([B[BII)I"⟩ prog_47_method_17_code 4 (Option.some FieldType.int)) args σ Q Y := by
  obtain ⟨x1, x2, x3, x4, rfl, hw⟩ := hw
  refine zof hG (by decide +kernel) [false, false, false, false] ⟨(zc_rf _), (zc_rf _), rfl, rfl, trivial⟩ (Nat.le_of_ble_eq_true rfl) (ls := [some (va_rf x1), some (va_rf x2), some (.int x3), some (.int x4)]) rfl ?_
  intro X hX hR hTb hd1 hd2 hl hg hnm
  subst hl
  subst hg
  have hd : zDep X d := ⟨hd1, hd2⟩
  refine z_iload_n hX dJ15_compareToUTF16_2_0 rfl (i := 2) rfl ?_
  refine z_aload_n hX dJ15_compareToUTF16_2_1 rfl (i := 0) rfl ?_
  refine z_invS hX hd dJ15_compareToUTF16_2_2 (hC 423 _ zm423 _ _ _ _ hw) q1958 q1959 zh21 q1960 q151 zn423 rfl (Nat.le_of_ble_eq_true rfl) (st := [.int x3]) rfl (zcs8 (Nat.le_of_ble_eq_true rfl)) rfl (zkI (fun v1 s2 hw => ?_)) (zout hX hR hTb)
  refine z_invS hX hd dJ15_compareToUTF16_2_5 (hC 368 _ zm368 _ _ _ _ hw) q1997 q1992 zh17 q1993 q146 zn368 rfl (Nat.le_of_ble_eq_true rfl) (st := []) rfl (zcs8 (Nat.le_of_ble_eq_true rfl)) rfl (zkV (fun s5 hw => ?_)) (zout hX hR hTb)
  refine z_iload_n hX dJ15_compareToUTF16_2_8 rfl (i := 3) rfl ?_
  refine z_aload_n hX dJ15_compareToUTF16_2_9 rfl (i := 1) rfl ?_
  refine z_invS hX hd dJ15_compareToUTF16_2_10 (hC 372 _ zm372 _ _ _ _ hw) q1961 q1041 zh18 q1042 q147 zn372 rfl (Nat.le_of_ble_eq_true rfl) (st := [.int x4]) rfl (zcs8 (Nat.le_of_ble_eq_true rfl)) rfl (zkI (fun v7 s8 hw => ?_)) (zout hX hR hTb)
  refine z_invS hX hd dJ15_compareToUTF16_2_13 (hC 368 _ zm368 _ _ _ _ hw) q1997 q1992 zh17 q1993 q146 zn368 rfl (Nat.le_of_ble_eq_true rfl) (st := []) rfl (zcs8 (Nat.le_of_ble_eq_true rfl)) rfl (zkV (fun s11 hw => ?_)) (zout hX hR hTb)
  refine z_aload_n hX dJ15_compareToUTF16_2_16 rfl (i := 0) rfl ?_
  refine z_aload_n hX dJ15_compareToUTF16_2_17 rfl (i := 1) rfl ?_
  refine z_iload_n hX dJ15_compareToUTF16_2_18 rfl (i := 2) rfl ?_
  refine z_iload_n hX dJ15_compareToUTF16_2_19 rfl (i := 3) rfl ?_
  refine z_invS hX hd dJ15_compareToUTF16_2_20 (hC 424 _ zm424 _ _ _ _ hw) q1962 q1963 zh21 q1964 q151 zn424 rfl (Nat.le_of_ble_eq_true rfl) (st := []) rfl (zcs8 (Nat.le_of_ble_eq_true rfl)) rfl (zkI (fun v13 s14 hw => ?_)) (zout hX hR hTb)
  exact z_ireturn hX hR dJ15_compareToUTF16_2_23 rfl hw
abbrev cJ15_hashCode : ByteArray := prog_47_method_21_code
def yJ15_hashCode : MethodName := ⟨RJ15, "hashCode", "([B)I"⟩
def dkwJ15_hashCode_2 : List UInt8 := [3, 167, 0, 22, 42, 3, 51, 17, 0, 255, 126, 167, 0, 12, 42, 3, 42, 190, 3, 7, 184, 0, 84, 172]
abbrev dktJ15_hashCode_2 : List UInt8 := dkwJ15_hashCode_2 ++ []
def dkwJ15_hashCode_1 : List UInt8 := [171, 0, 0, 0, 0, 40, 0, 0, 0, 2, 0, 0, 0, 0, 0, 0, 0, 26, 0, 0, 0, 1, 0, 0, 0, 30]
abbrev dktJ15_hashCode_1 : List UInt8 := dkwJ15_hashCode_1 ++ dktJ15_hashCode_2
def dkwJ15_hashCode_0 : List UInt8 := [42, 190]
abbrev dktJ15_hashCode_0 : List UInt8 := dkwJ15_hashCode_0 ++ dktJ15_hashCode_1
theorem dksJ15_hashCode_0 : cJ15_hashCode.data.toList.drop 0 = dktJ15_hashCode_0 := by decide +kernel
theorem dksJ15_hashCode_1 : cJ15_hashCode.data.toList.drop 2 = dktJ15_hashCode_1 := dk_seg dksJ15_hashCode_0 2 rfl rfl
theorem dksJ15_hashCode_2 : cJ15_hashCode.data.toList.drop 28 = dktJ15_hashCode_2 := dk_seg dksJ15_hashCode_1 26 rfl rfl
theorem dJ15_hashCode_0 : decode cJ15_hashCode 0 = .ok (.aload_n 0, 1) := dk_42 (dk_at dksJ15_hashCode_0 0 rfl rfl)
theorem dJ15_hashCode_1 : decode cJ15_hashCode 1 = .ok (.arraylength, 1) := dk_190 (dk_at dksJ15_hashCode_0 1 rfl rfl)
theorem dJ15_hashCode_2 : decode cJ15_hashCode 2 = .ok (.lookupswitch 40 #[(0, 26), (1, 30)], 26) := by decide +kernel
theorem dJ15_hashCode_28 : decode cJ15_hashCode 28 = .ok (.iconst 0, 1) := dk_3 (dk_at dksJ15_hashCode_2 0 rfl rfl)
theorem dJ15_hashCode_29 : decode cJ15_hashCode 29 = .ok (.goto 22, 3) := dk_167 0 22 (dk_at dksJ15_hashCode_2 1 rfl rfl)
theorem dJ15_hashCode_32 : decode cJ15_hashCode 32 = .ok (.aload_n 0, 1) := dk_42 (dk_at dksJ15_hashCode_2 4 rfl rfl)
theorem dJ15_hashCode_33 : decode cJ15_hashCode 33 = .ok (.iconst 0, 1) := dk_3 (dk_at dksJ15_hashCode_2 5 rfl rfl)
theorem dJ15_hashCode_34 : decode cJ15_hashCode 34 = .ok (.baload, 1) := dk_51 (dk_at dksJ15_hashCode_2 6 rfl rfl)
theorem dJ15_hashCode_35 : decode cJ15_hashCode 35 = .ok (.sipush 255, 3) := dk_17 0 255 (dk_at dksJ15_hashCode_2 7 rfl rfl)
theorem dJ15_hashCode_38 : decode cJ15_hashCode 38 = .ok (.iand, 1) := dk_126 (dk_at dksJ15_hashCode_2 10 rfl rfl)
theorem dJ15_hashCode_39 : decode cJ15_hashCode 39 = .ok (.goto 12, 3) := dk_167 0 12 (dk_at dksJ15_hashCode_2 11 rfl rfl)
theorem dJ15_hashCode_42 : decode cJ15_hashCode 42 = .ok (.aload_n 0, 1) := dk_42 (dk_at dksJ15_hashCode_2 14 rfl rfl)
theorem dJ15_hashCode_43 : decode cJ15_hashCode 43 = .ok (.iconst 0, 1) := dk_3 (dk_at dksJ15_hashCode_2 15 rfl rfl)
theorem dJ15_hashCode_44 : decode cJ15_hashCode 44 = .ok (.aload_n 0, 1) := dk_42 (dk_at dksJ15_hashCode_2 16 rfl rfl)
theorem dJ15_hashCode_45 : decode cJ15_hashCode 45 = .ok (.arraylength, 1) := dk_190 (dk_at dksJ15_hashCode_2 17 rfl rfl)
theorem dJ15_hashCode_46 : decode cJ15_hashCode 46 = .ok (.iconst 0, 1) := dk_3 (dk_at dksJ15_hashCode_2 18 rfl rfl)
theorem dJ15_hashCode_47 : decode cJ15_hashCode 47 = .ok (.iconst 4, 1) := dk_7 (dk_at dksJ15_hashCode_2 19 rfl rfl)
theorem dJ15_hashCode_48 : decode cJ15_hashCode 48 = .ok (.invokestatic 84, 3) := dk_184 0 84 (dk_at dksJ15_hashCode_2 20 rfl rfl)
theorem dJ15_hashCode_51 : decode cJ15_hashCode 51 = .ok (.ireturn, 1) := dk_172 (dk_at dksJ15_hashCode_2 23 rfl rfl)
/-- java/lang/StringLatin1.hashCode([B)I -/
def zb426 (G : zPg) (C : zO) (args : List Value) (Q : zQ) (Y : zY) (σ : zS) : Prop := ∃ (x1 : Option Nat), args = [va_rf x1] ∧ (zln σ 2 x1 (fun v5 => zJ (fun (p7 : Int32) (s8 : zS) => Q (some (.int p7)) s8) (fun (j9 : Int32 → zS → Prop) => (v5 = 0 → j9 (0 : Int32) σ) ∧ (v5 = 1 → zaI σ 2 x1 (0 : Int32) (fun v17 => j9 (v17 &&& (255 : Int32)) σ)) ∧ (¬ v5 = 0 → ¬ v5 = 1 → zln σ 2 x1 (fun v24 => zcl C 399 [va_rf x1, .int (0 : Int32), .int v24, .int (0 : Int32), .int (4 : Int32)] Y σ (zqI (fun v26 s27 => j9 v26 s27)))))))
set_option maxHeartbeats 4000000 in
theorem wk426 {l : Launch} {g : zG} {d : Nat} {C : zO} (hG : zGk g) (hC : zSound l g d C) {args : List Value} {Q : zQ} {Y : zY} {σ : zS} (hw : zb426 (zpg g) C args Q Y σ) : zMet l g (d + 1) (⟨"java/lang/StringLatin1", "hashCode", "([B)I"⟩, Cond.code ⟨"java/lang/StringLatin1", "hashCode", "([B)I"⟩ prog_47_method_21_code 1 (Option.some FieldType.int)) args σ Q Y := by
  obtain ⟨x1, rfl, hw⟩ := hw
  refine zof hG (by decide +kernel) [false] ⟨(zc_rf _), trivial⟩ (Nat.le_of_ble_eq_true rfl) (ls := [some (va_rf x1)]) rfl ?_
  intro X hX hR hTb hd1 hd2 hl hg hnm
  subst hl
  subst hg
  have hd : zDep X d := ⟨hd1, hd2⟩
  refine z_aload_n hX dJ15_hashCode_0 rfl (i := 0) rfl ?_
  obtain ⟨a1, n2, r3, m4, hw⟩ := hw
  refine z_alen hX 2 dJ15_hashCode_1 r3 m4 ?_
  revert hw
  generalize nI n2.1 = v5
  intro hw
  refine zJ_w (P := fun (j : Int32 → zS → Prop) => ∀ (p7 : Int32) (s8 : zS), j p7 s8 → zW X s8 51 [none] [.int p7]) hw (fun p7 s8 hw => ?_) (fun j9 hj9 hw => ?_)
  · exact z_ireturn hX hR dJ15_hashCode_51 rfl hw
  · by_cases c10 : v5 = 0
    · refine z_lookup hX dJ15_hashCode_2 (by decide) (off := 26) (by rw [c10]; decide) (tgt := 28) rfl ?_
      have hw := hw.1 c10
      refine z_iconst hX (v := (0 : Int32)) dJ15_hashCode_28 (by decide) ?_
      refine z_goto hX dJ15_hashCode_29 (tgt := 51) rfl ?_
      refine z_sub (ls' := [none]) (zsN (zs0)) ?_
      exact hj9 _ _ hw
    by_cases c19 : v5 = 1
    · refine z_lookup hX dJ15_hashCode_2 (by decide) (off := 30) (by rw [c19]; decide) (tgt := 32) rfl ?_
      have hw := hw.2.1 c19
      refine z_aload_n hX dJ15_hashCode_32 rfl (i := 0) rfl ?_
      refine z_iconst hX (v := (0 : Int32)) dJ15_hashCode_33 (by decide) ?_
      obtain ⟨a11, n12, f13, r14, m15, i16, hw⟩ := hw
      refine z_bald hX dJ15_hashCode_34 r14 m15 i16 ?_
      revert hw
      generalize f13 (Int32.toNatClampNeg (0 : Int32)) = v17
      intro hw
      refine z_sipush hX (v := (255 : Int32)) dJ15_hashCode_35 (by decide) ?_
      refine z_iand hX dJ15_hashCode_38 ?_
      refine z_goto hX dJ15_hashCode_39 (tgt := 51) rfl ?_
      refine z_sub (ls' := [none]) (zsN (zs0)) ?_
      exact hj9 _ _ hw
    refine z_lookup hX dJ15_hashCode_2 (by decide) (off := 40) ((lv_osw c10 (by decide)).trans ((lv_osw c19 (by decide)).trans (rfl))) (tgt := 42) rfl ?_
    have hw := hw.2.2 c10 c19
    refine z_aload_n hX dJ15_hashCode_42 rfl (i := 0) rfl ?_
    refine z_iconst hX (v := (0 : Int32)) dJ15_hashCode_43 (by decide) ?_
    refine z_aload_n hX dJ15_hashCode_44 rfl (i := 0) rfl ?_
    obtain ⟨a20, n21, r22, m23, hw⟩ := hw
    refine z_alen hX 2 dJ15_hashCode_45 r22 m23 ?_
    revert hw
    generalize nI n21.1 = v24
    intro hw
    refine z_iconst hX (v := (0 : Int32)) dJ15_hashCode_46 (by decide) ?_
    refine z_iconst hX (v := (4 : Int32)) dJ15_hashCode_47 (by decide) ?_
    refine z_invS hX hd dJ15_hashCode_48 (hC 399 _ zm399 _ _ _ _ hw) q2292 q2293 zh19 q2294 q148 zn399 rfl (Nat.le_of_ble_eq_true rfl) (st := []) rfl (zcs8 (Nat.le_of_ble_eq_true rfl)) rfl (zkI (fun v26 s27 hw => ?_)) (zout hX hR hTb)
    refine z_sub (ls' := [none]) (zsN (zs0)) ?_
    exact hj9 _ _ hw
def RJ16 : String := "jdk/internal/util/Preconditions"
abbrev cJ16_checkIndex : ByteArray := prog_74_method_11_code
def yJ16_checkIndex : MethodName := ⟨RJ16, "checkIndex", "(IILjava/util/function/BiFunction;)I"⟩
def dkwJ16_checkIndex_0 : List UInt8 := [26, 155, 0, 8, 26, 27, 161, 0, 10, 44, 26, 27, 184, 0, 95, 191, 26, 172]
abbrev dktJ16_checkIndex_0 : List UInt8 := dkwJ16_checkIndex_0 ++ []
theorem dksJ16_checkIndex_0 : cJ16_checkIndex.data.toList.drop 0 = dktJ16_checkIndex_0 := by decide +kernel
theorem dJ16_checkIndex_0 : decode cJ16_checkIndex 0 = .ok (.iload_n 0, 1) := dk_26 (dk_at dksJ16_checkIndex_0 0 rfl rfl)
theorem dJ16_checkIndex_1 : decode cJ16_checkIndex 1 = .ok (.ifCond .lt 8, 3) := dk_155 0 8 (dk_at dksJ16_checkIndex_0 1 rfl rfl)
theorem dJ16_checkIndex_4 : decode cJ16_checkIndex 4 = .ok (.iload_n 0, 1) := dk_26 (dk_at dksJ16_checkIndex_0 4 rfl rfl)
theorem dJ16_checkIndex_5 : decode cJ16_checkIndex 5 = .ok (.iload_n 1, 1) := dk_27 (dk_at dksJ16_checkIndex_0 5 rfl rfl)
theorem dJ16_checkIndex_6 : decode cJ16_checkIndex 6 = .ok (.if_icmp .lt 10, 3) := dk_161 0 10 (dk_at dksJ16_checkIndex_0 6 rfl rfl)
theorem dJ16_checkIndex_9 : decode cJ16_checkIndex 9 = .ok (.aload_n 2, 1) := dk_44 (dk_at dksJ16_checkIndex_0 9 rfl rfl)
theorem dJ16_checkIndex_10 : decode cJ16_checkIndex 10 = .ok (.iload_n 0, 1) := dk_26 (dk_at dksJ16_checkIndex_0 10 rfl rfl)
theorem dJ16_checkIndex_11 : decode cJ16_checkIndex 11 = .ok (.iload_n 1, 1) := dk_27 (dk_at dksJ16_checkIndex_0 11 rfl rfl)
theorem dJ16_checkIndex_12 : decode cJ16_checkIndex 12 = .ok (.invokestatic 95, 3) := dk_184 0 95 (dk_at dksJ16_checkIndex_0 12 rfl rfl)
theorem dJ16_checkIndex_15 : decode cJ16_checkIndex 15 = .ok (.athrow, 1) := dk_191 (dk_at dksJ16_checkIndex_0 15 rfl rfl)
theorem dJ16_checkIndex_16 : decode cJ16_checkIndex 16 = .ok (.iload_n 0, 1) := dk_26 (dk_at dksJ16_checkIndex_0 16 rfl rfl)
theorem dJ16_checkIndex_17 : decode cJ16_checkIndex 17 = .ok (.ireturn, 1) := dk_172 (dk_at dksJ16_checkIndex_0 17 rfl rfl)
/-- jdk/internal/util/Preconditions.checkIndex(IILjava/util/function/BiFunction;)I -/
def zb427 (G : zPg) (C : zO) (args : List Value) (Q : zQ) (Y : zY) (σ : zS) : Prop := ∃ (x1 : Int32) (x2 : Int32) (x3 : Option Nat), args = [.int x1, .int x2, va_rf x3] ∧ (zJ (fun  (s1 : zS) => False) (fun (j2 : zS → Prop) => ((x1 < 0) → j2 σ) ∧ ((¬ x1 < 0) → ((x1 < x2) → Q (some (.int x1)) σ) ∧ ((¬ x1 < x2) → j2 σ))))
set_option maxHeartbeats 4000000 in
theorem wk427 {l : Launch} {g : zG} {d : Nat} {C : zO} (hG : zGk g) (hC : zSound l g d C) {args : List Value} {Q : zQ} {Y : zY} {σ : zS} (hw : zb427 (zpg g) C args Q Y σ) : zMet l g (d + 1) (⟨"jdk/internal/util/Preconditions", "checkIndex", "(IILjava/util/function/BiFunction;)I"⟩, Cond.code ⟨"jdk/internal/util/Preconditions", "checkIndex", "(IILjava/util/function/BiFunction;)I"⟩ prog_74_method_11_code 3 (Option.some FieldType.int)) args σ Q Y := by
  obtain ⟨x1, x2, x3, rfl, hw⟩ := hw
  refine zof hG (by decide +kernel) [false, false, false] ⟨rfl, rfl, (zc_rf _), trivial⟩ (Nat.le_of_ble_eq_true rfl) (ls := [some (.int x1), some (.int x2), some (va_rf x3)]) rfl ?_
  intro X hX hR hTb hd1 hd2 hl hg hnm
  subst hl
  subst hg
  have hd : zDep X d := ⟨hd1, hd2⟩
  refine z_iload_n hX dJ16_checkIndex_0 rfl (i := 0) rfl ?_
  refine zJ_w (P := fun (j : zS → Prop) => ∀  (s1 : zS), j  s1 → zW X s1 9 [some (.int x1), some (.int x2), some (va_rf x3)] []) hw (fun  s1 hw => ?_) (fun j2 hj2 hw => ?_)
  · refine z_aload_n hX dJ16_checkIndex_9 rfl (i := 2) rfl ?_
    refine z_iload_n hX dJ16_checkIndex_10 rfl (i := 0) rfl ?_
    refine z_iload_n hX dJ16_checkIndex_11 rfl (i := 1) rfl ?_
    exact hw.elim
  · refine z_if_lt hX dJ16_checkIndex_1 (tgt := 9) rfl (fun c3 => ?_) (fun c3 => ?_)
    · have hw := hw.1 c3
      exact hj2  _ hw
    · have hw := hw.2 c3
      refine z_iload_n hX dJ16_checkIndex_4 rfl (i := 0) rfl ?_
      refine z_iload_n hX dJ16_checkIndex_5 rfl (i := 1) rfl ?_
      refine z_icmp_lt hX dJ16_checkIndex_6 (tgt := 16) rfl (fun c4 => ?_) (fun c4 => ?_)
      · have hw := hw.1 c4
        refine z_iload_n hX dJ16_checkIndex_16 rfl (i := 0) rfl ?_
        exact z_ireturn hX hR dJ16_checkIndex_17 rfl hw
      · have hw := hw.2 c4
        exact hj2  _ hw
abbrev cJ16_checkFromToIndex : ByteArray := prog_74_method_12_code
def yJ16_checkFromToIndex : MethodName := ⟨RJ16, "checkFromToIndex", "(IIILjava/util/function/BiFunction;)I"⟩
def dkwJ16_checkFromToIndex_0 : List UInt8 := [26, 155, 0, 13, 26, 27, 163, 0, 8, 27, 28, 164, 0, 11, 45, 26, 27, 28, 184, 0, 99, 191, 26, 172]
abbrev dktJ16_checkFromToIndex_0 : List UInt8 := dkwJ16_checkFromToIndex_0 ++ []
theorem dksJ16_checkFromToIndex_0 : cJ16_checkFromToIndex.data.toList.drop 0 = dktJ16_checkFromToIndex_0 := by decide +kernel
theorem dJ16_checkFromToIndex_0 : decode cJ16_checkFromToIndex 0 = .ok (.iload_n 0, 1) := dk_26 (dk_at dksJ16_checkFromToIndex_0 0 rfl rfl)
theorem dJ16_checkFromToIndex_1 : decode cJ16_checkFromToIndex 1 = .ok (.ifCond .lt 13, 3) := dk_155 0 13 (dk_at dksJ16_checkFromToIndex_0 1 rfl rfl)
theorem dJ16_checkFromToIndex_4 : decode cJ16_checkFromToIndex 4 = .ok (.iload_n 0, 1) := dk_26 (dk_at dksJ16_checkFromToIndex_0 4 rfl rfl)
theorem dJ16_checkFromToIndex_5 : decode cJ16_checkFromToIndex 5 = .ok (.iload_n 1, 1) := dk_27 (dk_at dksJ16_checkFromToIndex_0 5 rfl rfl)
theorem dJ16_checkFromToIndex_6 : decode cJ16_checkFromToIndex 6 = .ok (.if_icmp .gt 8, 3) := dk_163 0 8 (dk_at dksJ16_checkFromToIndex_0 6 rfl rfl)
theorem dJ16_checkFromToIndex_9 : decode cJ16_checkFromToIndex 9 = .ok (.iload_n 1, 1) := dk_27 (dk_at dksJ16_checkFromToIndex_0 9 rfl rfl)
theorem dJ16_checkFromToIndex_10 : decode cJ16_checkFromToIndex 10 = .ok (.iload_n 2, 1) := dk_28 (dk_at dksJ16_checkFromToIndex_0 10 rfl rfl)
theorem dJ16_checkFromToIndex_11 : decode cJ16_checkFromToIndex 11 = .ok (.if_icmp .le 11, 3) := dk_164 0 11 (dk_at dksJ16_checkFromToIndex_0 11 rfl rfl)
theorem dJ16_checkFromToIndex_14 : decode cJ16_checkFromToIndex 14 = .ok (.aload_n 3, 1) := dk_45 (dk_at dksJ16_checkFromToIndex_0 14 rfl rfl)
theorem dJ16_checkFromToIndex_15 : decode cJ16_checkFromToIndex 15 = .ok (.iload_n 0, 1) := dk_26 (dk_at dksJ16_checkFromToIndex_0 15 rfl rfl)
theorem dJ16_checkFromToIndex_16 : decode cJ16_checkFromToIndex 16 = .ok (.iload_n 1, 1) := dk_27 (dk_at dksJ16_checkFromToIndex_0 16 rfl rfl)
theorem dJ16_checkFromToIndex_17 : decode cJ16_checkFromToIndex 17 = .ok (.iload_n 2, 1) := dk_28 (dk_at dksJ16_checkFromToIndex_0 17 rfl rfl)
theorem dJ16_checkFromToIndex_18 : decode cJ16_checkFromToIndex 18 = .ok (.invokestatic 99, 3) := dk_184 0 99 (dk_at dksJ16_checkFromToIndex_0 18 rfl rfl)
theorem dJ16_checkFromToIndex_21 : decode cJ16_checkFromToIndex 21 = .ok (.athrow, 1) := dk_191 (dk_at dksJ16_checkFromToIndex_0 21 rfl rfl)
theorem dJ16_checkFromToIndex_22 : decode cJ16_checkFromToIndex 22 = .ok (.iload_n 0, 1) := dk_26 (dk_at dksJ16_checkFromToIndex_0 22 rfl rfl)
theorem dJ16_checkFromToIndex_23 : decode cJ16_checkFromToIndex 23 = .ok (.ireturn, 1) := dk_172 (dk_at dksJ16_checkFromToIndex_0 23 rfl rfl)
/-- jdk/internal/util/Preconditions.checkFromToIndex(IIILjava/util/function/BiFunction;)I -/
def zb428 (G : zPg) (C : zO) (args : List Value) (Q : zQ) (Y : zY) (σ : zS) : Prop := ∃ (x1 : Int32) (x2 : Int32) (x3 : Int32) (x4 : Option Nat), args = [.int x1, .int x2, .int x3, va_rf x4] ∧ (zJ (fun  (s1 : zS) => False) (fun (j2 : zS → Prop) => ((x1 < 0) → j2 σ) ∧ ((¬ x1 < 0) → ((x2 < x1) → j2 σ) ∧ ((¬ x2 < x1) → ((x2 ≤ x3) → Q (some (.int x1)) σ) ∧ ((¬ x2 ≤ x3) → j2 σ)))))
set_option maxHeartbeats 4000000 in
theorem wk428 {l : Launch} {g : zG} {d : Nat} {C : zO} (hG : zGk g) (hC : zSound l g d C) {args : List Value} {Q : zQ} {Y : zY} {σ : zS} (hw : zb428 (zpg g) C args Q Y σ) : zMet l g (d + 1) (⟨"jdk/internal/util/Preconditions", "checkFromToIndex", "(IIILjava/util/function/BiFunction;)I"⟩, Cond.code ⟨"jdk/internal/util/Preconditions", "checkFromToIndex", "(IIILjava/util/function/BiFunction;)I"⟩ prog_74_method_12_code 4 (Option.some FieldType.int)) args σ Q Y := by
  obtain ⟨x1, x2, x3, x4, rfl, hw⟩ := hw
  refine zof hG (by decide +kernel) [false, false, false, false] ⟨rfl, rfl, rfl, (zc_rf _), trivial⟩ (Nat.le_of_ble_eq_true rfl) (ls := [some (.int x1), some (.int x2), some (.int x3), some (va_rf x4)]) rfl ?_
  intro X hX hR hTb hd1 hd2 hl hg hnm
  subst hl
  subst hg
  have hd : zDep X d := ⟨hd1, hd2⟩
  refine z_iload_n hX dJ16_checkFromToIndex_0 rfl (i := 0) rfl ?_
  refine zJ_w (P := fun (j : zS → Prop) => ∀  (s1 : zS), j  s1 → zW X s1 14 [some (.int x1), some (.int x2), some (.int x3), some (va_rf x4)] []) hw (fun  s1 hw => ?_) (fun j2 hj2 hw => ?_)
  · refine z_aload_n hX dJ16_checkFromToIndex_14 rfl (i := 3) rfl ?_
    refine z_iload_n hX dJ16_checkFromToIndex_15 rfl (i := 0) rfl ?_
    refine z_iload_n hX dJ16_checkFromToIndex_16 rfl (i := 1) rfl ?_
    refine z_iload_n hX dJ16_checkFromToIndex_17 rfl (i := 2) rfl ?_
    exact hw.elim
  · refine z_if_lt hX dJ16_checkFromToIndex_1 (tgt := 14) rfl (fun c3 => ?_) (fun c3 => ?_)
    · have hw := hw.1 c3
      exact hj2  _ hw
    · have hw := hw.2 c3
      refine z_iload_n hX dJ16_checkFromToIndex_4 rfl (i := 0) rfl ?_
      refine z_iload_n hX dJ16_checkFromToIndex_5 rfl (i := 1) rfl ?_
      refine z_icmp_gt hX dJ16_checkFromToIndex_6 (tgt := 14) rfl (fun c4 => ?_) (fun c4 => ?_)
      · have hw := hw.1 c4
        exact hj2  _ hw
      · have hw := hw.2 c4
        refine z_iload_n hX dJ16_checkFromToIndex_9 rfl (i := 1) rfl ?_
        refine z_iload_n hX dJ16_checkFromToIndex_10 rfl (i := 2) rfl ?_
        refine z_icmp_le hX dJ16_checkFromToIndex_11 (tgt := 22) rfl (fun c5 => ?_) (fun c5 => ?_)
        · have hw := hw.1 c5
          refine z_iload_n hX dJ16_checkFromToIndex_22 rfl (i := 0) rfl ?_
          exact z_ireturn hX hR dJ16_checkFromToIndex_23 rfl hw
        · have hw := hw.2 c5
          exact hj2  _ hw
abbrev cJ16_checkFromIndexSize : ByteArray := prog_74_method_13_code
def yJ16_checkFromIndexSize : MethodName := ⟨RJ16, "checkFromIndexSize", "(IIILjava/util/function/BiFunction;)I"⟩
def dkwJ16_checkFromIndexSize_1 : List UInt8 := [172]
abbrev dktJ16_checkFromIndexSize_1 : List UInt8 := dkwJ16_checkFromIndexSize_1 ++ []
def dkwJ16_checkFromIndexSize_0 : List UInt8 := [28, 26, 128, 27, 128, 155, 0, 10, 27, 28, 26, 100, 164, 0, 11, 45, 26, 27, 28, 184, 0, 103, 191, 26]
abbrev dktJ16_checkFromIndexSize_0 : List UInt8 := dkwJ16_checkFromIndexSize_0 ++ dktJ16_checkFromIndexSize_1
theorem dksJ16_checkFromIndexSize_0 : cJ16_checkFromIndexSize.data.toList.drop 0 = dktJ16_checkFromIndexSize_0 := by decide +kernel
theorem dksJ16_checkFromIndexSize_1 : cJ16_checkFromIndexSize.data.toList.drop 24 = dktJ16_checkFromIndexSize_1 := dk_seg dksJ16_checkFromIndexSize_0 24 rfl rfl
theorem dJ16_checkFromIndexSize_0 : decode cJ16_checkFromIndexSize 0 = .ok (.iload_n 2, 1) := dk_28 (dk_at dksJ16_checkFromIndexSize_0 0 rfl rfl)
theorem dJ16_checkFromIndexSize_1 : decode cJ16_checkFromIndexSize 1 = .ok (.iload_n 0, 1) := dk_26 (dk_at dksJ16_checkFromIndexSize_0 1 rfl rfl)
theorem dJ16_checkFromIndexSize_2 : decode cJ16_checkFromIndexSize 2 = .ok (.ior, 1) := dk_128 (dk_at dksJ16_checkFromIndexSize_0 2 rfl rfl)
theorem dJ16_checkFromIndexSize_3 : decode cJ16_checkFromIndexSize 3 = .ok (.iload_n 1, 1) := dk_27 (dk_at dksJ16_checkFromIndexSize_0 3 rfl rfl)
theorem dJ16_checkFromIndexSize_4 : decode cJ16_checkFromIndexSize 4 = .ok (.ior, 1) := dk_128 (dk_at dksJ16_checkFromIndexSize_0 4 rfl rfl)
theorem dJ16_checkFromIndexSize_5 : decode cJ16_checkFromIndexSize 5 = .ok (.ifCond .lt 10, 3) := dk_155 0 10 (dk_at dksJ16_checkFromIndexSize_0 5 rfl rfl)
theorem dJ16_checkFromIndexSize_8 : decode cJ16_checkFromIndexSize 8 = .ok (.iload_n 1, 1) := dk_27 (dk_at dksJ16_checkFromIndexSize_0 8 rfl rfl)
theorem dJ16_checkFromIndexSize_9 : decode cJ16_checkFromIndexSize 9 = .ok (.iload_n 2, 1) := dk_28 (dk_at dksJ16_checkFromIndexSize_0 9 rfl rfl)
theorem dJ16_checkFromIndexSize_10 : decode cJ16_checkFromIndexSize 10 = .ok (.iload_n 0, 1) := dk_26 (dk_at dksJ16_checkFromIndexSize_0 10 rfl rfl)
theorem dJ16_checkFromIndexSize_11 : decode cJ16_checkFromIndexSize 11 = .ok (.isub, 1) := dk_100 (dk_at dksJ16_checkFromIndexSize_0 11 rfl rfl)
theorem dJ16_checkFromIndexSize_12 : decode cJ16_checkFromIndexSize 12 = .ok (.if_icmp .le 11, 3) := dk_164 0 11 (dk_at dksJ16_checkFromIndexSize_0 12 rfl rfl)
theorem dJ16_checkFromIndexSize_15 : decode cJ16_checkFromIndexSize 15 = .ok (.aload_n 3, 1) := dk_45 (dk_at dksJ16_checkFromIndexSize_0 15 rfl rfl)
theorem dJ16_checkFromIndexSize_16 : decode cJ16_checkFromIndexSize 16 = .ok (.iload_n 0, 1) := dk_26 (dk_at dksJ16_checkFromIndexSize_0 16 rfl rfl)
theorem dJ16_checkFromIndexSize_17 : decode cJ16_checkFromIndexSize 17 = .ok (.iload_n 1, 1) := dk_27 (dk_at dksJ16_checkFromIndexSize_0 17 rfl rfl)
theorem dJ16_checkFromIndexSize_18 : decode cJ16_checkFromIndexSize 18 = .ok (.iload_n 2, 1) := dk_28 (dk_at dksJ16_checkFromIndexSize_0 18 rfl rfl)
theorem dJ16_checkFromIndexSize_19 : decode cJ16_checkFromIndexSize 19 = .ok (.invokestatic 103, 3) := dk_184 0 103 (dk_at dksJ16_checkFromIndexSize_0 19 rfl rfl)
theorem dJ16_checkFromIndexSize_22 : decode cJ16_checkFromIndexSize 22 = .ok (.athrow, 1) := dk_191 (dk_at dksJ16_checkFromIndexSize_0 22 rfl rfl)
theorem dJ16_checkFromIndexSize_23 : decode cJ16_checkFromIndexSize 23 = .ok (.iload_n 0, 1) := dk_26 (dk_at dksJ16_checkFromIndexSize_0 23 rfl rfl)
theorem dJ16_checkFromIndexSize_24 : decode cJ16_checkFromIndexSize 24 = .ok (.ireturn, 1) := dk_172 (dk_at dksJ16_checkFromIndexSize_1 0 rfl rfl)
/-- jdk/internal/util/Preconditions.checkFromIndexSize(IIILjava/util/function/BiFunction;)I -/
def zb429 (G : zPg) (C : zO) (args : List Value) (Q : zQ) (Y : zY) (σ : zS) : Prop := ∃ (x1 : Int32) (x2 : Int32) (x3 : Int32) (x4 : Option Nat), args = [.int x1, .int x2, .int x3, va_rf x4] ∧ (zJ (fun  (s1 : zS) => False) (fun (j2 : zS → Prop) => ((((x3 ||| x1) ||| x2) < 0) → j2 σ) ∧ ((¬ ((x3 ||| x1) ||| x2) < 0) → ((x2 ≤ (x3 - x1)) → Q (some (.int x1)) σ) ∧ ((¬ x2 ≤ (x3 - x1)) → j2 σ))))
set_option maxHeartbeats 4000000 in
theorem wk429 {l : Launch} {g : zG} {d : Nat} {C : zO} (hG : zGk g) (hC : zSound l g d C) {args : List Value} {Q : zQ} {Y : zY} {σ : zS} (hw : zb429 (zpg g) C args Q Y σ) : zMet l g (d + 1) (⟨"jdk/internal/util/Preconditions", "checkFromIndexSize", "(IIILjava/util/function/BiFunction;)I"⟩, Cond.code ⟨"jdk/internal/util/Preconditions", "checkFromIndexSize", "(IIILjava/util/function/BiFunction;)I"⟩ prog_74_method_13_code 4 (Option.some FieldType.int)) args σ Q Y := by
  obtain ⟨x1, x2, x3, x4, rfl, hw⟩ := hw
  refine zof hG (by decide +kernel) [false, false, false, false] ⟨rfl, rfl, rfl, (zc_rf _), trivial⟩ (Nat.le_of_ble_eq_true rfl) (ls := [some (.int x1), some (.int x2), some (.int x3), some (va_rf x4)]) rfl ?_
  intro X hX hR hTb hd1 hd2 hl hg hnm
  subst hl
  subst hg
  have hd : zDep X d := ⟨hd1, hd2⟩
  refine z_iload_n hX dJ16_checkFromIndexSize_0 rfl (i := 2) rfl ?_
  refine z_iload_n hX dJ16_checkFromIndexSize_1 rfl (i := 0) rfl ?_
  refine z_ior hX dJ16_checkFromIndexSize_2 ?_
  refine z_iload_n hX dJ16_checkFromIndexSize_3 rfl (i := 1) rfl ?_
  refine z_ior hX dJ16_checkFromIndexSize_4 ?_
  refine zJ_w (P := fun (j : zS → Prop) => ∀  (s1 : zS), j  s1 → zW X s1 15 [some (.int x1), some (.int x2), some (.int x3), some (va_rf x4)] []) hw (fun  s1 hw => ?_) (fun j2 hj2 hw => ?_)
  · refine z_aload_n hX dJ16_checkFromIndexSize_15 rfl (i := 3) rfl ?_
    refine z_iload_n hX dJ16_checkFromIndexSize_16 rfl (i := 0) rfl ?_
    refine z_iload_n hX dJ16_checkFromIndexSize_17 rfl (i := 1) rfl ?_
    refine z_iload_n hX dJ16_checkFromIndexSize_18 rfl (i := 2) rfl ?_
    exact hw.elim
  · refine z_if_lt hX dJ16_checkFromIndexSize_5 (tgt := 15) rfl (fun c3 => ?_) (fun c3 => ?_)
    · have hw := hw.1 c3
      exact hj2  _ hw
    · have hw := hw.2 c3
      refine z_iload_n hX dJ16_checkFromIndexSize_8 rfl (i := 1) rfl ?_
      refine z_iload_n hX dJ16_checkFromIndexSize_9 rfl (i := 2) rfl ?_
      refine z_iload_n hX dJ16_checkFromIndexSize_10 rfl (i := 0) rfl ?_
      refine z_isub hX dJ16_checkFromIndexSize_11 ?_
      refine z_icmp_le hX dJ16_checkFromIndexSize_12 (tgt := 23) rfl (fun c4 => ?_) (fun c4 => ?_)
      · have hw := hw.1 c4
        refine z_iload_n hX dJ16_checkFromIndexSize_23 rfl (i := 0) rfl ?_
        exact z_ireturn hX hR dJ16_checkFromIndexSize_24 rfl hw
      · have hw := hw.2 c4
        exact hj2  _ hw
def RJ17 : String := "java/lang/Number"
abbrev cJ17_init : ByteArray := prog_43_method_1_code
def yJ17_init : MethodName := ⟨RJ17, "<init>", "()V"⟩
theorem dJ17_init_0 : decode cJ17_init 0 = .ok (.aload_n 0, 1) := by decide +kernel
theorem dJ17_init_1 : decode cJ17_init 1 = .ok (.invokespecial 1, 3) := by decide +kernel
theorem dJ17_init_4 : decode cJ17_init 4 = .ok (.return_, 1) := by decide +kernel
/-- java/lang/Number.<init>()V -/
def zb430 (G : zPg) (C : zO) (args : List Value) (Q : zQ) (Y : zY) (σ : zS) : Prop := ∃ (a0 : Nat), args = [.ref a0] ∧ ((∃ a1, (some a0) = some a1 ∧ Q none σ))
set_option maxHeartbeats 4000000 in
theorem wk430 {l : Launch} {g : zG} {d : Nat} {C : zO} (hG : zGk g) (hC : zSound l g d C) {args : List Value} {Q : zQ} {Y : zY} {σ : zS} (hw : zb430 (zpg g) C args Q Y σ) : zMet l g (d + 1) (⟨"java/lang/Number", "<init>", "()V"⟩, Cond.code ⟨"java/lang/Number", "<init>", "()V"⟩ prog_43_method_1_code 1 (Option.none : Option FieldType)) args σ Q Y := by
  obtain ⟨a0, rfl, hw⟩ := hw
  refine zof hG (by decide +kernel) [false] ⟨rfl, trivial⟩ (Nat.le_of_ble_eq_true rfl) (ls := [some (va_rf (some a0))]) rfl ?_
  intro X hX hR hTb hd1 hd2 hl hg hnm
  subst hl
  subst hg
  have hd : zDep X d := ⟨hd1, hd2⟩
  refine z_aload_n hX dJ17_init_0 rfl (i := 0) rfl ?_
  obtain ⟨a1, r2, hw⟩ := hw
  refine z_oinit hX hd dJ17_init_1 q1620 q191 q192 r2 rfl (zcs8 (Nat.le_of_ble_eq_true rfl)) ?_
  exact z_return hX hR dJ17_init_4 hw
abbrev cJ18_numberOfTrailingZeros : ByteArray := prog_38_method_48_code
def yJ18_numberOfTrailingZeros : MethodName := ⟨RJ18, "numberOfTrailingZeros", "(I)I"⟩
def dkwJ18_numberOfTrailingZeros_3 : List UInt8 := [5, 124, 59, 27, 26, 4, 124, 96, 172]
abbrev dktJ18_numberOfTrailingZeros_3 : List UInt8 := dkwJ18_numberOfTrailingZeros_3 ++ []
def dkwJ18_numberOfTrailingZeros_2 : List UInt8 := [124, 59, 26, 16, 16, 164, 0, 10, 132, 1, 4, 26, 7, 124, 59, 26, 7, 164, 0, 10, 132, 1, 2, 26]
abbrev dktJ18_numberOfTrailingZeros_2 : List UInt8 := dkwJ18_numberOfTrailingZeros_2 ++ dktJ18_numberOfTrailingZeros_3
def dkwJ18_numberOfTrailingZeros_1 : List UInt8 := [164, 0, 11, 132, 1, 16, 26, 16, 16, 124, 59, 26, 17, 1, 0, 164, 0, 11, 132, 1, 8, 26, 16, 8]
abbrev dktJ18_numberOfTrailingZeros_1 : List UInt8 := dkwJ18_numberOfTrailingZeros_1 ++ dktJ18_numberOfTrailingZeros_2
def dkwJ18_numberOfTrailingZeros_0 : List UInt8 := [26, 2, 130, 26, 4, 100, 126, 59, 26, 157, 0, 8, 26, 16, 32, 126, 172, 4, 60, 26, 19, 1, 8]
abbrev dktJ18_numberOfTrailingZeros_0 : List UInt8 := dkwJ18_numberOfTrailingZeros_0 ++ dktJ18_numberOfTrailingZeros_1
theorem dksJ18_numberOfTrailingZeros_0 : cJ18_numberOfTrailingZeros.data.toList.drop 0 = dktJ18_numberOfTrailingZeros_0 := by decide +kernel
theorem dksJ18_numberOfTrailingZeros_1 : cJ18_numberOfTrailingZeros.data.toList.drop 23 = dktJ18_numberOfTrailingZeros_1 := dk_seg dksJ18_numberOfTrailingZeros_0 23 rfl rfl
theorem dksJ18_numberOfTrailingZeros_2 : cJ18_numberOfTrailingZeros.data.toList.drop 47 = dktJ18_numberOfTrailingZeros_2 := dk_seg dksJ18_numberOfTrailingZeros_1 24 rfl rfl
theorem dksJ18_numberOfTrailingZeros_3 : cJ18_numberOfTrailingZeros.data.toList.drop 71 = dktJ18_numberOfTrailingZeros_3 := dk_seg dksJ18_numberOfTrailingZeros_2 24 rfl rfl
theorem dJ18_numberOfTrailingZeros_0 : decode cJ18_numberOfTrailingZeros 0 = .ok (.iload_n 0, 1) := dk_26 (dk_at dksJ18_numberOfTrailingZeros_0 0 rfl rfl)
theorem dJ18_numberOfTrailingZeros_1 : decode cJ18_numberOfTrailingZeros 1 = .ok (.iconst (-1), 1) := dk_2 (dk_at dksJ18_numberOfTrailingZeros_0 1 rfl rfl)
theorem dJ18_numberOfTrailingZeros_2 : decode cJ18_numberOfTrailingZeros 2 = .ok (.ixor, 1) := dk_130 (dk_at dksJ18_numberOfTrailingZeros_0 2 rfl rfl)
theorem dJ18_numberOfTrailingZeros_3 : decode cJ18_numberOfTrailingZeros 3 = .ok (.iload_n 0, 1) := dk_26 (dk_at dksJ18_numberOfTrailingZeros_0 3 rfl rfl)
theorem dJ18_numberOfTrailingZeros_4 : decode cJ18_numberOfTrailingZeros 4 = .ok (.iconst 1, 1) := dk_4 (dk_at dksJ18_numberOfTrailingZeros_0 4 rfl rfl)
theorem dJ18_numberOfTrailingZeros_5 : decode cJ18_numberOfTrailingZeros 5 = .ok (.isub, 1) := dk_100 (dk_at dksJ18_numberOfTrailingZeros_0 5 rfl rfl)
theorem dJ18_numberOfTrailingZeros_6 : decode cJ18_numberOfTrailingZeros 6 = .ok (.iand, 1) := dk_126 (dk_at dksJ18_numberOfTrailingZeros_0 6 rfl rfl)
theorem dJ18_numberOfTrailingZeros_7 : decode cJ18_numberOfTrailingZeros 7 = .ok (.istore_n 0, 1) := dk_59 (dk_at dksJ18_numberOfTrailingZeros_0 7 rfl rfl)
theorem dJ18_numberOfTrailingZeros_8 : decode cJ18_numberOfTrailingZeros 8 = .ok (.iload_n 0, 1) := dk_26 (dk_at dksJ18_numberOfTrailingZeros_0 8 rfl rfl)
theorem dJ18_numberOfTrailingZeros_9 : decode cJ18_numberOfTrailingZeros 9 = .ok (.ifCond .gt 8, 3) := dk_157 0 8 (dk_at dksJ18_numberOfTrailingZeros_0 9 rfl rfl)
theorem dJ18_numberOfTrailingZeros_12 : decode cJ18_numberOfTrailingZeros 12 = .ok (.iload_n 0, 1) := dk_26 (dk_at dksJ18_numberOfTrailingZeros_0 12 rfl rfl)
theorem dJ18_numberOfTrailingZeros_13 : decode cJ18_numberOfTrailingZeros 13 = .ok (.bipush 32, 2) := dk_16 32 (dk_at dksJ18_numberOfTrailingZeros_0 13 rfl rfl)
theorem dJ18_numberOfTrailingZeros_15 : decode cJ18_numberOfTrailingZeros 15 = .ok (.iand, 1) := dk_126 (dk_at dksJ18_numberOfTrailingZeros_0 15 rfl rfl)
theorem dJ18_numberOfTrailingZeros_16 : decode cJ18_numberOfTrailingZeros 16 = .ok (.ireturn, 1) := dk_172 (dk_at dksJ18_numberOfTrailingZeros_0 16 rfl rfl)
theorem dJ18_numberOfTrailingZeros_17 : decode cJ18_numberOfTrailingZeros 17 = .ok (.iconst 1, 1) := dk_4 (dk_at dksJ18_numberOfTrailingZeros_0 17 rfl rfl)
theorem dJ18_numberOfTrailingZeros_18 : decode cJ18_numberOfTrailingZeros 18 = .ok (.istore_n 1, 1) := dk_60 (dk_at dksJ18_numberOfTrailingZeros_0 18 rfl rfl)
theorem dJ18_numberOfTrailingZeros_19 : decode cJ18_numberOfTrailingZeros 19 = .ok (.iload_n 0, 1) := dk_26 (dk_at dksJ18_numberOfTrailingZeros_0 19 rfl rfl)
theorem dJ18_numberOfTrailingZeros_20 : decode cJ18_numberOfTrailingZeros 20 = .ok (.ldc_w 264, 3) := dk_19 1 8 (dk_at dksJ18_numberOfTrailingZeros_0 20 rfl rfl)
theorem dJ18_numberOfTrailingZeros_23 : decode cJ18_numberOfTrailingZeros 23 = .ok (.if_icmp .le 11, 3) := dk_164 0 11 (dk_at dksJ18_numberOfTrailingZeros_1 0 rfl rfl)
theorem dJ18_numberOfTrailingZeros_26 : decode cJ18_numberOfTrailingZeros 26 = .ok (.iinc 1 16, 3) := dk_132 1 16 (dk_at dksJ18_numberOfTrailingZeros_1 3 rfl rfl)
theorem dJ18_numberOfTrailingZeros_29 : decode cJ18_numberOfTrailingZeros 29 = .ok (.iload_n 0, 1) := dk_26 (dk_at dksJ18_numberOfTrailingZeros_1 6 rfl rfl)
theorem dJ18_numberOfTrailingZeros_30 : decode cJ18_numberOfTrailingZeros 30 = .ok (.bipush 16, 2) := dk_16 16 (dk_at dksJ18_numberOfTrailingZeros_1 7 rfl rfl)
theorem dJ18_numberOfTrailingZeros_32 : decode cJ18_numberOfTrailingZeros 32 = .ok (.iushr, 1) := dk_124 (dk_at dksJ18_numberOfTrailingZeros_1 9 rfl rfl)
theorem dJ18_numberOfTrailingZeros_33 : decode cJ18_numberOfTrailingZeros 33 = .ok (.istore_n 0, 1) := dk_59 (dk_at dksJ18_numberOfTrailingZeros_1 10 rfl rfl)
theorem dJ18_numberOfTrailingZeros_34 : decode cJ18_numberOfTrailingZeros 34 = .ok (.iload_n 0, 1) := dk_26 (dk_at dksJ18_numberOfTrailingZeros_1 11 rfl rfl)
theorem dJ18_numberOfTrailingZeros_35 : decode cJ18_numberOfTrailingZeros 35 = .ok (.sipush 256, 3) := dk_17 1 0 (dk_at dksJ18_numberOfTrailingZeros_1 12 rfl rfl)
theorem dJ18_numberOfTrailingZeros_38 : decode cJ18_numberOfTrailingZeros 38 = .ok (.if_icmp .le 11, 3) := dk_164 0 11 (dk_at dksJ18_numberOfTrailingZeros_1 15 rfl rfl)
theorem dJ18_numberOfTrailingZeros_41 : decode cJ18_numberOfTrailingZeros 41 = .ok (.iinc 1 8, 3) := dk_132 1 8 (dk_at dksJ18_numberOfTrailingZeros_1 18 rfl rfl)
theorem dJ18_numberOfTrailingZeros_44 : decode cJ18_numberOfTrailingZeros 44 = .ok (.iload_n 0, 1) := dk_26 (dk_at dksJ18_numberOfTrailingZeros_1 21 rfl rfl)
theorem dJ18_numberOfTrailingZeros_45 : decode cJ18_numberOfTrailingZeros 45 = .ok (.bipush 8, 2) := dk_16 8 (dk_at dksJ18_numberOfTrailingZeros_1 22 rfl rfl)
theorem dJ18_numberOfTrailingZeros_47 : decode cJ18_numberOfTrailingZeros 47 = .ok (.iushr, 1) := dk_124 (dk_at dksJ18_numberOfTrailingZeros_2 0 rfl rfl)
theorem dJ18_numberOfTrailingZeros_48 : decode cJ18_numberOfTrailingZeros 48 = .ok (.istore_n 0, 1) := dk_59 (dk_at dksJ18_numberOfTrailingZeros_2 1 rfl rfl)
theorem dJ18_numberOfTrailingZeros_49 : decode cJ18_numberOfTrailingZeros 49 = .ok (.iload_n 0, 1) := dk_26 (dk_at dksJ18_numberOfTrailingZeros_2 2 rfl rfl)
theorem dJ18_numberOfTrailingZeros_50 : decode cJ18_numberOfTrailingZeros 50 = .ok (.bipush 16, 2) := dk_16 16 (dk_at dksJ18_numberOfTrailingZeros_2 3 rfl rfl)
theorem dJ18_numberOfTrailingZeros_52 : decode cJ18_numberOfTrailingZeros 52 = .ok (.if_icmp .le 10, 3) := dk_164 0 10 (dk_at dksJ18_numberOfTrailingZeros_2 5 rfl rfl)
theorem dJ18_numberOfTrailingZeros_55 : decode cJ18_numberOfTrailingZeros 55 = .ok (.iinc 1 4, 3) := dk_132 1 4 (dk_at dksJ18_numberOfTrailingZeros_2 8 rfl rfl)
theorem dJ18_numberOfTrailingZeros_58 : decode cJ18_numberOfTrailingZeros 58 = .ok (.iload_n 0, 1) := dk_26 (dk_at dksJ18_numberOfTrailingZeros_2 11 rfl rfl)
theorem dJ18_numberOfTrailingZeros_59 : decode cJ18_numberOfTrailingZeros 59 = .ok (.iconst 4, 1) := dk_7 (dk_at dksJ18_numberOfTrailingZeros_2 12 rfl rfl)
theorem dJ18_numberOfTrailingZeros_60 : decode cJ18_numberOfTrailingZeros 60 = .ok (.iushr, 1) := dk_124 (dk_at dksJ18_numberOfTrailingZeros_2 13 rfl rfl)
theorem dJ18_numberOfTrailingZeros_61 : decode cJ18_numberOfTrailingZeros 61 = .ok (.istore_n 0, 1) := dk_59 (dk_at dksJ18_numberOfTrailingZeros_2 14 rfl rfl)
theorem dJ18_numberOfTrailingZeros_62 : decode cJ18_numberOfTrailingZeros 62 = .ok (.iload_n 0, 1) := dk_26 (dk_at dksJ18_numberOfTrailingZeros_2 15 rfl rfl)
theorem dJ18_numberOfTrailingZeros_63 : decode cJ18_numberOfTrailingZeros 63 = .ok (.iconst 4, 1) := dk_7 (dk_at dksJ18_numberOfTrailingZeros_2 16 rfl rfl)
theorem dJ18_numberOfTrailingZeros_64 : decode cJ18_numberOfTrailingZeros 64 = .ok (.if_icmp .le 10, 3) := dk_164 0 10 (dk_at dksJ18_numberOfTrailingZeros_2 17 rfl rfl)
theorem dJ18_numberOfTrailingZeros_67 : decode cJ18_numberOfTrailingZeros 67 = .ok (.iinc 1 2, 3) := dk_132 1 2 (dk_at dksJ18_numberOfTrailingZeros_2 20 rfl rfl)
theorem dJ18_numberOfTrailingZeros_70 : decode cJ18_numberOfTrailingZeros 70 = .ok (.iload_n 0, 1) := dk_26 (dk_at dksJ18_numberOfTrailingZeros_2 23 rfl rfl)
theorem dJ18_numberOfTrailingZeros_71 : decode cJ18_numberOfTrailingZeros 71 = .ok (.iconst 2, 1) := dk_5 (dk_at dksJ18_numberOfTrailingZeros_3 0 rfl rfl)
theorem dJ18_numberOfTrailingZeros_72 : decode cJ18_numberOfTrailingZeros 72 = .ok (.iushr, 1) := dk_124 (dk_at dksJ18_numberOfTrailingZeros_3 1 rfl rfl)
theorem dJ18_numberOfTrailingZeros_73 : decode cJ18_numberOfTrailingZeros 73 = .ok (.istore_n 0, 1) := dk_59 (dk_at dksJ18_numberOfTrailingZeros_3 2 rfl rfl)
theorem dJ18_numberOfTrailingZeros_74 : decode cJ18_numberOfTrailingZeros 74 = .ok (.iload_n 1, 1) := dk_27 (dk_at dksJ18_numberOfTrailingZeros_3 3 rfl rfl)
theorem dJ18_numberOfTrailingZeros_75 : decode cJ18_numberOfTrailingZeros 75 = .ok (.iload_n 0, 1) := dk_26 (dk_at dksJ18_numberOfTrailingZeros_3 4 rfl rfl)
theorem dJ18_numberOfTrailingZeros_76 : decode cJ18_numberOfTrailingZeros 76 = .ok (.iconst 1, 1) := dk_4 (dk_at dksJ18_numberOfTrailingZeros_3 5 rfl rfl)
theorem dJ18_numberOfTrailingZeros_77 : decode cJ18_numberOfTrailingZeros 77 = .ok (.iushr, 1) := dk_124 (dk_at dksJ18_numberOfTrailingZeros_3 6 rfl rfl)
theorem dJ18_numberOfTrailingZeros_78 : decode cJ18_numberOfTrailingZeros 78 = .ok (.iadd, 1) := dk_96 (dk_at dksJ18_numberOfTrailingZeros_3 7 rfl rfl)
theorem dJ18_numberOfTrailingZeros_79 : decode cJ18_numberOfTrailingZeros 79 = .ok (.ireturn, 1) := dk_172 (dk_at dksJ18_numberOfTrailingZeros_3 8 rfl rfl)
/-- java/lang/Integer.numberOfTrailingZeros(I)I -/
def zb431 (G : zPg) (C : zO) (args : List Value) (Q : zQ) (Y : zY) (σ : zS) : Prop := ∃ (x1 : Int32), args = [.int x1] ∧ ((∀ v1 : Int32, v1 = ((x1 ^^^ (-1 : Int32)) &&& (x1 - (1 : Int32))) → ((0 < v1) → zJ (fun (p4 : Int32) (p5 : Int32) (s6 : zS) => zJ (fun (p8 : Int32) (p9 : Int32) (s10 : zS) => zJ (fun (p12 : Int32) (p13 : Int32) (s14 : zS) => zJ (fun (p16 : Int32) (p17 : Int32) (s18 : zS) => (∀ v20 : Int32, v20 = ((p16.toUInt32 >>> ((1 : Int32).toUInt32 &&& Int32.toUInt32 31)).toInt32) → Q (some (.int (p17 + v20))) s18)) (fun (j19 : Int32 → Int32 → zS → Prop) => ((p12 ≤ (4 : Int32)) → j19 p12 p13 s14) ∧ ((¬ p12 ≤ (4 : Int32)) → (∀ v23 : Int32, v23 = p13 + (2 : Int32) → (∀ v25 : Int32, v25 = ((p12.toUInt32 >>> ((2 : Int32).toUInt32 &&& Int32.toUInt32 31)).toInt32) → j19 v25 v23 s14))))) (fun (j15 : Int32 → Int32 → zS → Prop) => ((p8 ≤ (16 : Int32)) → j15 p8 p9 s10) ∧ ((¬ p8 ≤ (16 : Int32)) → (∀ v28 : Int32, v28 = p9 + (4 : Int32) → (∀ v30 : Int32, v30 = ((p8.toUInt32 >>> ((4 : Int32).toUInt32 &&& Int32.toUInt32 31)).toInt32) → j15 v30 v28 s10))))) (fun (j11 : Int32 → Int32 → zS → Prop) => ((p4 ≤ (256 : Int32)) → j11 p4 p5 s6) ∧ ((¬ p4 ≤ (256 : Int32)) → (∀ v33 : Int32, v33 = p5 + (8 : Int32) → (∀ v35 : Int32, v35 = ((p4.toUInt32 >>> ((8 : Int32).toUInt32 &&& Int32.toUInt32 31)).toInt32) → j11 v35 v33 s6))))) (fun (j7 : Int32 → Int32 → zS → Prop) => ((v1 ≤ (65536 : Int32)) → j7 v1 (1 : Int32) σ) ∧ ((¬ v1 ≤ (65536 : Int32)) → (∀ v38 : Int32, v38 = (1 : Int32) + (16 : Int32) → (∀ v40 : Int32, v40 = ((v1.toUInt32 >>> ((16 : Int32).toUInt32 &&& Int32.toUInt32 31)).toInt32) → j7 v40 v38 σ))))) ∧ ((¬ 0 < v1) → Q (some (.int (v1 &&& (32 : Int32)))) σ)))
set_option maxHeartbeats 4000000 in
theorem wk431 {l : Launch} {g : zG} {d : Nat} {C : zO} (hG : zGk g) (hC : zSound l g d C) {args : List Value} {Q : zQ} {Y : zY} {σ : zS} (hw : zb431 (zpg g) C args Q Y σ) : zMet l g (d + 1) (⟨"java/lang/Integer", "numberOfTrailingZeros", "(I)I"⟩, Cond.code ⟨"java/lang/Integer", "numberOfTrailingZeros", "(I)I"⟩ prog_38_method_48_code 2 (Option.some FieldType.int)) args σ Q Y := by
  obtain ⟨x1, rfl, hw⟩ := hw
  refine zof hG (by decide +kernel) [false] ⟨rfl, trivial⟩ (Nat.le_of_ble_eq_true rfl) (ls := [some (.int x1), none]) rfl ?_
  intro X hX hR hTb hd1 hd2 hl hg hnm
  subst hl
  subst hg
  have hd : zDep X d := ⟨hd1, hd2⟩
  refine z_iload_n hX dJ18_numberOfTrailingZeros_0 rfl (i := 0) rfl ?_
  refine z_iconst hX (v := (-1 : Int32)) dJ18_numberOfTrailingZeros_1 (by decide) ?_
  refine z_ixor hX dJ18_numberOfTrailingZeros_2 ?_
  refine z_iload_n hX dJ18_numberOfTrailingZeros_3 rfl (i := 0) rfl ?_
  refine z_iconst hX (v := (1 : Int32)) dJ18_numberOfTrailingZeros_4 (by decide) ?_
  refine z_isub hX dJ18_numberOfTrailingZeros_5 ?_
  refine z_iand hX dJ18_numberOfTrailingZeros_6 ?_
  refine z_topi (fun v1 e2 => ?_)
  have hw := hw v1 e2
  refine z_istore_n hX dJ18_numberOfTrailingZeros_7 rfl (i := 0) (Nat.le_of_ble_eq_true rfl) trivial (ls2 := [some (.int v1), none]) rfl ?_
  refine z_iload_n hX dJ18_numberOfTrailingZeros_8 rfl (i := 0) rfl ?_
  refine z_if_gt hX dJ18_numberOfTrailingZeros_9 (tgt := 17) rfl (fun c3 => ?_) (fun c3 => ?_)
  · have hw := hw.1 c3
    refine z_iconst hX (v := (1 : Int32)) dJ18_numberOfTrailingZeros_17 (by decide) ?_
    refine z_istore_n hX dJ18_numberOfTrailingZeros_18 rfl (i := 1) (Nat.le_of_ble_eq_true rfl) rfl (ls2 := [some (.int v1), some (.int (1 : Int32))]) rfl ?_
    refine z_iload_n hX dJ18_numberOfTrailingZeros_19 rfl (i := 0) rfl ?_
    refine z_ldcw hX dJ18_numberOfTrailingZeros_20 q370 ?_
    refine zJ_w (P := fun (j : Int32 → Int32 → zS → Prop) => ∀ (p4 : Int32) (p5 : Int32) (s6 : zS), j p4 p5 s6 → zW X s6 34 [some (.int p4), some (.int p5)] []) hw (fun p4 p5 s6 hw => ?_) (fun j7 hj7 hw => ?_)
    · refine z_iload_n hX dJ18_numberOfTrailingZeros_34 rfl (i := 0) rfl ?_
      refine z_sipush hX (v := (256 : Int32)) dJ18_numberOfTrailingZeros_35 (by decide) ?_
      refine zJ_w (P := fun (j : Int32 → Int32 → zS → Prop) => ∀ (p8 : Int32) (p9 : Int32) (s10 : zS), j p8 p9 s10 → zW X s10 49 [some (.int p8), some (.int p9)] []) hw (fun p8 p9 s10 hw => ?_) (fun j11 hj11 hw => ?_)
      · refine z_iload_n hX dJ18_numberOfTrailingZeros_49 rfl (i := 0) rfl ?_
        refine z_bipush hX (v := (16 : Int32)) dJ18_numberOfTrailingZeros_50 (by decide) ?_
        refine zJ_w (P := fun (j : Int32 → Int32 → zS → Prop) => ∀ (p12 : Int32) (p13 : Int32) (s14 : zS), j p12 p13 s14 → zW X s14 62 [some (.int p12), some (.int p13)] []) hw (fun p12 p13 s14 hw => ?_) (fun j15 hj15 hw => ?_)
        · refine z_iload_n hX dJ18_numberOfTrailingZeros_62 rfl (i := 0) rfl ?_
          refine z_iconst hX (v := (4 : Int32)) dJ18_numberOfTrailingZeros_63 (by decide) ?_
          refine zJ_w (P := fun (j : Int32 → Int32 → zS → Prop) => ∀ (p16 : Int32) (p17 : Int32) (s18 : zS), j p16 p17 s18 → zW X s18 74 [some (.int p16), some (.int p17)] []) hw (fun p16 p17 s18 hw => ?_) (fun j19 hj19 hw => ?_)
          · refine z_iload_n hX dJ18_numberOfTrailingZeros_74 rfl (i := 1) rfl ?_
            refine z_iload_n hX dJ18_numberOfTrailingZeros_75 rfl (i := 0) rfl ?_
            refine z_iconst hX (v := (1 : Int32)) dJ18_numberOfTrailingZeros_76 (by decide) ?_
            refine z_iushr hX dJ18_numberOfTrailingZeros_77 ?_
            refine z_topi (fun v20 e21 => ?_)
            have hw := hw v20 e21
            refine z_iadd hX dJ18_numberOfTrailingZeros_78 ?_
            exact z_ireturn hX hR dJ18_numberOfTrailingZeros_79 rfl hw
          · refine z_icmp_le hX dJ18_numberOfTrailingZeros_64 (tgt := 74) rfl (fun c22 => ?_) (fun c22 => ?_)
            · have hw := hw.1 c22
              exact hj19 _ _ _ hw
            · have hw := hw.2 c22
              obtain ⟨v23, e24⟩ : ∃ y : Int32, y = p13 + (2 : Int32) := ⟨_, rfl⟩
              refine z_iinc hX dJ18_numberOfTrailingZeros_67 (i := 1) (v := v23) rfl (by rw [e24]; rfl) (Nat.le_of_ble_eq_true rfl) rfl (ls2 := [some (.int p12), some (.int v23)]) rfl ?_
              have hw := hw v23 e24
              refine z_iload_n hX dJ18_numberOfTrailingZeros_70 rfl (i := 0) rfl ?_
              refine z_iconst hX (v := (2 : Int32)) dJ18_numberOfTrailingZeros_71 (by decide) ?_
              refine z_iushr hX dJ18_numberOfTrailingZeros_72 ?_
              refine z_topi (fun v25 e26 => ?_)
              have hw := hw v25 e26
              refine z_istore_n hX dJ18_numberOfTrailingZeros_73 rfl (i := 0) (Nat.le_of_ble_eq_true rfl) trivial (ls2 := [some (.int v25), some (.int v23)]) rfl ?_
              exact hj19 _ _ _ hw
        · refine z_icmp_le hX dJ18_numberOfTrailingZeros_52 (tgt := 62) rfl (fun c27 => ?_) (fun c27 => ?_)
          · have hw := hw.1 c27
            exact hj15 _ _ _ hw
          · have hw := hw.2 c27
            obtain ⟨v28, e29⟩ : ∃ y : Int32, y = p9 + (4 : Int32) := ⟨_, rfl⟩
            refine z_iinc hX dJ18_numberOfTrailingZeros_55 (i := 1) (v := v28) rfl (by rw [e29]; rfl) (Nat.le_of_ble_eq_true rfl) rfl (ls2 := [some (.int p8), some (.int v28)]) rfl ?_
            have hw := hw v28 e29
            refine z_iload_n hX dJ18_numberOfTrailingZeros_58 rfl (i := 0) rfl ?_
            refine z_iconst hX (v := (4 : Int32)) dJ18_numberOfTrailingZeros_59 (by decide) ?_
            refine z_iushr hX dJ18_numberOfTrailingZeros_60 ?_
            refine z_topi (fun v30 e31 => ?_)
            have hw := hw v30 e31
            refine z_istore_n hX dJ18_numberOfTrailingZeros_61 rfl (i := 0) (Nat.le_of_ble_eq_true rfl) trivial (ls2 := [some (.int v30), some (.int v28)]) rfl ?_
            exact hj15 _ _ _ hw
      · refine z_icmp_le hX dJ18_numberOfTrailingZeros_38 (tgt := 49) rfl (fun c32 => ?_) (fun c32 => ?_)
        · have hw := hw.1 c32
          exact hj11 _ _ _ hw
        · have hw := hw.2 c32
          obtain ⟨v33, e34⟩ : ∃ y : Int32, y = p5 + (8 : Int32) := ⟨_, rfl⟩
          refine z_iinc hX dJ18_numberOfTrailingZeros_41 (i := 1) (v := v33) rfl (by rw [e34]; rfl) (Nat.le_of_ble_eq_true rfl) rfl (ls2 := [some (.int p4), some (.int v33)]) rfl ?_
          have hw := hw v33 e34
          refine z_iload_n hX dJ18_numberOfTrailingZeros_44 rfl (i := 0) rfl ?_
          refine z_bipush hX (v := (8 : Int32)) dJ18_numberOfTrailingZeros_45 (by decide) ?_
          refine z_iushr hX dJ18_numberOfTrailingZeros_47 ?_
          refine z_topi (fun v35 e36 => ?_)
          have hw := hw v35 e36
          refine z_istore_n hX dJ18_numberOfTrailingZeros_48 rfl (i := 0) (Nat.le_of_ble_eq_true rfl) trivial (ls2 := [some (.int v35), some (.int v33)]) rfl ?_
          exact hj11 _ _ _ hw
    · refine z_icmp_le hX dJ18_numberOfTrailingZeros_23 (tgt := 34) rfl (fun c37 => ?_) (fun c37 => ?_)
      · have hw := hw.1 c37
        exact hj7 _ _ _ hw
      · have hw := hw.2 c37
        obtain ⟨v38, e39⟩ : ∃ y : Int32, y = (1 : Int32) + (16 : Int32) := ⟨_, rfl⟩
        refine z_iinc hX dJ18_numberOfTrailingZeros_26 (i := 1) (v := v38) rfl (by rw [e39]; rfl) (Nat.le_of_ble_eq_true rfl) rfl (ls2 := [some (.int v1), some (.int v38)]) rfl ?_
        have hw := hw v38 e39
        refine z_iload_n hX dJ18_numberOfTrailingZeros_29 rfl (i := 0) rfl ?_
        refine z_bipush hX (v := (16 : Int32)) dJ18_numberOfTrailingZeros_30 (by decide) ?_
        refine z_iushr hX dJ18_numberOfTrailingZeros_32 ?_
        refine z_topi (fun v40 e41 => ?_)
        have hw := hw v40 e41
        refine z_istore_n hX dJ18_numberOfTrailingZeros_33 rfl (i := 0) (Nat.le_of_ble_eq_true rfl) trivial (ls2 := [some (.int v40), some (.int v38)]) rfl ?_
        exact hj7 _ _ _ hw
  · have hw := hw.2 c3
    refine z_iload_n hX dJ18_numberOfTrailingZeros_12 rfl (i := 0) rfl ?_
    refine z_bipush hX (v := (32 : Int32)) dJ18_numberOfTrailingZeros_13 (by decide) ?_
    refine z_iand hX dJ18_numberOfTrailingZeros_15 ?_
    exact z_ireturn hX hR dJ18_numberOfTrailingZeros_16 rfl hw
abbrev cJ18_intValue : ByteArray := prog_38_method_27_code
def yJ18_intValue : MethodName := ⟨RJ18, "intValue", "()I"⟩
theorem dJ18_intValue_0 : decode cJ18_intValue 0 = .ok (.aload_n 0, 1) := by decide +kernel
theorem dJ18_intValue_1 : decode cJ18_intValue 1 = .ok (.getfield 205, 3) := by decide +kernel
theorem dJ18_intValue_4 : decode cJ18_intValue 4 = .ok (.ireturn, 1) := by decide +kernel
/-- java/lang/Integer.intValue()I -/
def zb432 (G : zPg) (C : zO) (args : List Value) (Q : zQ) (Y : zY) (σ : zS) : Prop := ∃ (a0 : Nat), args = [.ref a0] ∧ (zgI σ (some a0) 10 0 (fun v1 => Q (some (.int v1)) σ))
set_option maxHeartbeats 4000000 in
theorem wk432 {l : Launch} {g : zG} {d : Nat} {C : zO} (hG : zGk g) (hC : zSound l g d C) {args : List Value} {Q : zQ} {Y : zY} {σ : zS} (hw : zb432 (zpg g) C args Q Y σ) : zMet l g (d + 1) (⟨"java/lang/Integer", "intValue", "()I"⟩, Cond.code ⟨"java/lang/Integer", "intValue", "()I"⟩ prog_38_method_27_code 1 (Option.some FieldType.int)) args σ Q Y := by
  obtain ⟨a0, rfl, hw⟩ := hw
  refine zof hG (by decide +kernel) [false] ⟨rfl, trivial⟩ (Nat.le_of_ble_eq_true rfl) (ls := [some (va_rf (some a0))]) rfl ?_
  intro X hX hR hTb hd1 hd2 hl hg hnm
  subst hl
  subst hg
  have hd : zDep X d := ⟨hd1, hd2⟩
  refine z_aload_n hX dJ18_intValue_0 rfl (i := 0) rfl ?_
  obtain ⟨a2, f3, v1, r4, m5, e6, hw⟩ := hw
  refine z_get hX zc10 (k := 0) dJ18_intValue_1 (Nat.le_of_ble_eq_true rfl) (zlk hX q1621) r4 m5 e6 ?_
  exact z_ireturn hX hR dJ18_intValue_4 rfl hw
abbrev cJ18_bitCount : ByteArray := prog_38_method_49_code
def yJ18_bitCount : MethodName := ⟨RJ18, "bitCount", "(I)I"⟩
def dkwJ18_bitCount_2 : List UInt8 := [26, 16, 63, 126, 172]
abbrev dktJ18_bitCount_2 : List UInt8 := dkwJ18_bitCount_2 ++ []
def dkwJ18_bitCount_1 : List UInt8 := [26, 26, 7, 124, 96, 19, 1, 11, 126, 59, 26, 26, 16, 8, 124, 96, 59, 26, 26, 16, 16, 124, 96, 59]
abbrev dktJ18_bitCount_1 : List UInt8 := dkwJ18_bitCount_1 ++ dktJ18_bitCount_2
def dkwJ18_bitCount_0 : List UInt8 := [26, 26, 4, 124, 19, 1, 9, 126, 100, 59, 26, 19, 1, 10, 126, 26, 5, 124, 19, 1, 10, 126, 96, 59]
abbrev dktJ18_bitCount_0 : List UInt8 := dkwJ18_bitCount_0 ++ dktJ18_bitCount_1
theorem dksJ18_bitCount_0 : cJ18_bitCount.data.toList.drop 0 = dktJ18_bitCount_0 := by decide +kernel
theorem dksJ18_bitCount_1 : cJ18_bitCount.data.toList.drop 24 = dktJ18_bitCount_1 := dk_seg dksJ18_bitCount_0 24 rfl rfl
theorem dksJ18_bitCount_2 : cJ18_bitCount.data.toList.drop 48 = dktJ18_bitCount_2 := dk_seg dksJ18_bitCount_1 24 rfl rfl
theorem dJ18_bitCount_0 : decode cJ18_bitCount 0 = .ok (.iload_n 0, 1) := dk_26 (dk_at dksJ18_bitCount_0 0 rfl rfl)
theorem dJ18_bitCount_1 : decode cJ18_bitCount 1 = .ok (.iload_n 0, 1) := dk_26 (dk_at dksJ18_bitCount_0 1 rfl rfl)
theorem dJ18_bitCount_2 : decode cJ18_bitCount 2 = .ok (.iconst 1, 1) := dk_4 (dk_at dksJ18_bitCount_0 2 rfl rfl)
theorem dJ18_bitCount_3 : decode cJ18_bitCount 3 = .ok (.iushr, 1) := dk_124 (dk_at dksJ18_bitCount_0 3 rfl rfl)
theorem dJ18_bitCount_4 : decode cJ18_bitCount 4 = .ok (.ldc_w 265, 3) := dk_19 1 9 (dk_at dksJ18_bitCount_0 4 rfl rfl)
theorem dJ18_bitCount_7 : decode cJ18_bitCount 7 = .ok (.iand, 1) := dk_126 (dk_at dksJ18_bitCount_0 7 rfl rfl)
theorem dJ18_bitCount_8 : decode cJ18_bitCount 8 = .ok (.isub, 1) := dk_100 (dk_at dksJ18_bitCount_0 8 rfl rfl)
theorem dJ18_bitCount_9 : decode cJ18_bitCount 9 = .ok (.istore_n 0, 1) := dk_59 (dk_at dksJ18_bitCount_0 9 rfl rfl)
theorem dJ18_bitCount_10 : decode cJ18_bitCount 10 = .ok (.iload_n 0, 1) := dk_26 (dk_at dksJ18_bitCount_0 10 rfl rfl)
theorem dJ18_bitCount_11 : decode cJ18_bitCount 11 = .ok (.ldc_w 266, 3) := dk_19 1 10 (dk_at dksJ18_bitCount_0 11 rfl rfl)
theorem dJ18_bitCount_14 : decode cJ18_bitCount 14 = .ok (.iand, 1) := dk_126 (dk_at dksJ18_bitCount_0 14 rfl rfl)
theorem dJ18_bitCount_15 : decode cJ18_bitCount 15 = .ok (.iload_n 0, 1) := dk_26 (dk_at dksJ18_bitCount_0 15 rfl rfl)
theorem dJ18_bitCount_16 : decode cJ18_bitCount 16 = .ok (.iconst 2, 1) := dk_5 (dk_at dksJ18_bitCount_0 16 rfl rfl)
theorem dJ18_bitCount_17 : decode cJ18_bitCount 17 = .ok (.iushr, 1) := dk_124 (dk_at dksJ18_bitCount_0 17 rfl rfl)
theorem dJ18_bitCount_18 : decode cJ18_bitCount 18 = .ok (.ldc_w 266, 3) := dk_19 1 10 (dk_at dksJ18_bitCount_0 18 rfl rfl)
theorem dJ18_bitCount_21 : decode cJ18_bitCount 21 = .ok (.iand, 1) := dk_126 (dk_at dksJ18_bitCount_0 21 rfl rfl)
theorem dJ18_bitCount_22 : decode cJ18_bitCount 22 = .ok (.iadd, 1) := dk_96 (dk_at dksJ18_bitCount_0 22 rfl rfl)
theorem dJ18_bitCount_23 : decode cJ18_bitCount 23 = .ok (.istore_n 0, 1) := dk_59 (dk_at dksJ18_bitCount_0 23 rfl rfl)
theorem dJ18_bitCount_24 : decode cJ18_bitCount 24 = .ok (.iload_n 0, 1) := dk_26 (dk_at dksJ18_bitCount_1 0 rfl rfl)
theorem dJ18_bitCount_25 : decode cJ18_bitCount 25 = .ok (.iload_n 0, 1) := dk_26 (dk_at dksJ18_bitCount_1 1 rfl rfl)
theorem dJ18_bitCount_26 : decode cJ18_bitCount 26 = .ok (.iconst 4, 1) := dk_7 (dk_at dksJ18_bitCount_1 2 rfl rfl)
theorem dJ18_bitCount_27 : decode cJ18_bitCount 27 = .ok (.iushr, 1) := dk_124 (dk_at dksJ18_bitCount_1 3 rfl rfl)
theorem dJ18_bitCount_28 : decode cJ18_bitCount 28 = .ok (.iadd, 1) := dk_96 (dk_at dksJ18_bitCount_1 4 rfl rfl)
theorem dJ18_bitCount_29 : decode cJ18_bitCount 29 = .ok (.ldc_w 267, 3) := dk_19 1 11 (dk_at dksJ18_bitCount_1 5 rfl rfl)
theorem dJ18_bitCount_32 : decode cJ18_bitCount 32 = .ok (.iand, 1) := dk_126 (dk_at dksJ18_bitCount_1 8 rfl rfl)
theorem dJ18_bitCount_33 : decode cJ18_bitCount 33 = .ok (.istore_n 0, 1) := dk_59 (dk_at dksJ18_bitCount_1 9 rfl rfl)
theorem dJ18_bitCount_34 : decode cJ18_bitCount 34 = .ok (.iload_n 0, 1) := dk_26 (dk_at dksJ18_bitCount_1 10 rfl rfl)
theorem dJ18_bitCount_35 : decode cJ18_bitCount 35 = .ok (.iload_n 0, 1) := dk_26 (dk_at dksJ18_bitCount_1 11 rfl rfl)
theorem dJ18_bitCount_36 : decode cJ18_bitCount 36 = .ok (.bipush 8, 2) := dk_16 8 (dk_at dksJ18_bitCount_1 12 rfl rfl)
theorem dJ18_bitCount_38 : decode cJ18_bitCount 38 = .ok (.iushr, 1) := dk_124 (dk_at dksJ18_bitCount_1 14 rfl rfl)
theorem dJ18_bitCount_39 : decode cJ18_bitCount 39 = .ok (.iadd, 1) := dk_96 (dk_at dksJ18_bitCount_1 15 rfl rfl)
theorem dJ18_bitCount_40 : decode cJ18_bitCount 40 = .ok (.istore_n 0, 1) := dk_59 (dk_at dksJ18_bitCount_1 16 rfl rfl)
theorem dJ18_bitCount_41 : decode cJ18_bitCount 41 = .ok (.iload_n 0, 1) := dk_26 (dk_at dksJ18_bitCount_1 17 rfl rfl)
theorem dJ18_bitCount_42 : decode cJ18_bitCount 42 = .ok (.iload_n 0, 1) := dk_26 (dk_at dksJ18_bitCount_1 18 rfl rfl)
theorem dJ18_bitCount_43 : decode cJ18_bitCount 43 = .ok (.bipush 16, 2) := dk_16 16 (dk_at dksJ18_bitCount_1 19 rfl rfl)
theorem dJ18_bitCount_45 : decode cJ18_bitCount 45 = .ok (.iushr, 1) := dk_124 (dk_at dksJ18_bitCount_1 21 rfl rfl)
theorem dJ18_bitCount_46 : decode cJ18_bitCount 46 = .ok (.iadd, 1) := dk_96 (dk_at dksJ18_bitCount_1 22 rfl rfl)
theorem dJ18_bitCount_47 : decode cJ18_bitCount 47 = .ok (.istore_n 0, 1) := dk_59 (dk_at dksJ18_bitCount_1 23 rfl rfl)
theorem dJ18_bitCount_48 : decode cJ18_bitCount 48 = .ok (.iload_n 0, 1) := dk_26 (dk_at dksJ18_bitCount_2 0 rfl rfl)
theorem dJ18_bitCount_49 : decode cJ18_bitCount 49 = .ok (.bipush 63, 2) := dk_16 63 (dk_at dksJ18_bitCount_2 1 rfl rfl)
theorem dJ18_bitCount_51 : decode cJ18_bitCount 51 = .ok (.iand, 1) := dk_126 (dk_at dksJ18_bitCount_2 3 rfl rfl)
theorem dJ18_bitCount_52 : decode cJ18_bitCount 52 = .ok (.ireturn, 1) := dk_172 (dk_at dksJ18_bitCount_2 4 rfl rfl)
/-- java/lang/Integer.bitCount(I)I -/
def zb433 (G : zPg) (C : zO) (args : List Value) (Q : zQ) (Y : zY) (σ : zS) : Prop := ∃ (x1 : Int32), args = [.int x1] ∧ ((∀ v1 : Int32, v1 = ((x1.toUInt32 >>> ((1 : Int32).toUInt32 &&& Int32.toUInt32 31)).toInt32) → (∀ v3 : Int32, v3 = ((x1 - (v1 &&& (1431655765 : Int32))) &&& (858993459 : Int32)) → (∀ v5 : Int32, v5 = (((x1 - (v1 &&& (1431655765 : Int32))).toUInt32 >>> ((2 : Int32).toUInt32 &&& Int32.toUInt32 31)).toInt32) → (∀ v7 : Int32, v7 = (((v3 + (v5 &&& (858993459 : Int32))).toUInt32 >>> ((4 : Int32).toUInt32 &&& Int32.toUInt32 31)).toInt32) → (∀ v9 : Int32, v9 = (((v3 + (v5 &&& (858993459 : Int32))) + v7) &&& (252645135 : Int32)) → (∀ v11 : Int32, v11 = ((v9.toUInt32 >>> ((8 : Int32).toUInt32 &&& Int32.toUInt32 31)).toInt32) → (∀ v13 : Int32, v13 = (((v9 + v11).toUInt32 >>> ((16 : Int32).toUInt32 &&& Int32.toUInt32 31)).toInt32) → Q (some (.int (((v9 + v11) + v13) &&& (63 : Int32)))) σ))))))))
set_option maxHeartbeats 4000000 in
theorem wk433 {l : Launch} {g : zG} {d : Nat} {C : zO} (hG : zGk g) (hC : zSound l g d C) {args : List Value} {Q : zQ} {Y : zY} {σ : zS} (hw : zb433 (zpg g) C args Q Y σ) : zMet l g (d + 1) (⟨"java/lang/Integer", "bitCount", "(I)I"⟩, Cond.code ⟨"java/lang/Integer", "bitCount", "(I)I"⟩ prog_38_method_49_code 1 (Option.some FieldType.int)) args σ Q Y := by
  obtain ⟨x1, rfl, hw⟩ := hw
  refine zof hG (by decide +kernel) [false] ⟨rfl, trivial⟩ (Nat.le_of_ble_eq_true rfl) (ls := [some (.int x1)]) rfl ?_
  intro X hX hR hTb hd1 hd2 hl hg hnm
  subst hl
  subst hg
  have hd : zDep X d := ⟨hd1, hd2⟩
  refine z_iload_n hX dJ18_bitCount_0 rfl (i := 0) rfl ?_
  refine z_iload_n hX dJ18_bitCount_1 rfl (i := 0) rfl ?_
  refine z_iconst hX (v := (1 : Int32)) dJ18_bitCount_2 (by decide) ?_
  refine z_iushr hX dJ18_bitCount_3 ?_
  refine z_topi (fun v1 e2 => ?_)
  have hw := hw v1 e2
  refine z_ldcw hX dJ18_bitCount_4 q533 ?_
  refine z_iand hX dJ18_bitCount_7 ?_
  refine z_isub hX dJ18_bitCount_8 ?_
  refine z_istore_n hX dJ18_bitCount_9 rfl (i := 0) (Nat.le_of_ble_eq_true rfl) trivial (ls2 := [some (.int (x1 - (v1 &&& (1431655765 : Int32))))]) rfl ?_
  refine z_iload_n hX dJ18_bitCount_10 rfl (i := 0) rfl ?_
  refine z_ldcw hX dJ18_bitCount_11 q534 ?_
  refine z_iand hX dJ18_bitCount_14 ?_
  refine z_topi (fun v3 e4 => ?_)
  have hw := hw v3 e4
  refine z_iload_n hX dJ18_bitCount_15 rfl (i := 0) rfl ?_
  refine z_iconst hX (v := (2 : Int32)) dJ18_bitCount_16 (by decide) ?_
  refine z_iushr hX dJ18_bitCount_17 ?_
  refine z_topi (fun v5 e6 => ?_)
  have hw := hw v5 e6
  refine z_ldcw hX dJ18_bitCount_18 q534 ?_
  refine z_iand hX dJ18_bitCount_21 ?_
  refine z_iadd hX dJ18_bitCount_22 ?_
  refine z_istore_n hX dJ18_bitCount_23 rfl (i := 0) (Nat.le_of_ble_eq_true rfl) trivial (ls2 := [some (.int (v3 + (v5 &&& (858993459 : Int32))))]) rfl ?_
  refine z_iload_n hX dJ18_bitCount_24 rfl (i := 0) rfl ?_
  refine z_iload_n hX dJ18_bitCount_25 rfl (i := 0) rfl ?_
  refine z_iconst hX (v := (4 : Int32)) dJ18_bitCount_26 (by decide) ?_
  refine z_iushr hX dJ18_bitCount_27 ?_
  refine z_topi (fun v7 e8 => ?_)
  have hw := hw v7 e8
  refine z_iadd hX dJ18_bitCount_28 ?_
  refine z_ldcw hX dJ18_bitCount_29 q535 ?_
  refine z_iand hX dJ18_bitCount_32 ?_
  refine z_topi (fun v9 e10 => ?_)
  have hw := hw v9 e10
  refine z_istore_n hX dJ18_bitCount_33 rfl (i := 0) (Nat.le_of_ble_eq_true rfl) trivial (ls2 := [some (.int v9)]) rfl ?_
  refine z_iload_n hX dJ18_bitCount_34 rfl (i := 0) rfl ?_
  refine z_iload_n hX dJ18_bitCount_35 rfl (i := 0) rfl ?_
  refine z_bipush hX (v := (8 : Int32)) dJ18_bitCount_36 (by decide) ?_
  refine z_iushr hX dJ18_bitCount_38 ?_
  refine z_topi (fun v11 e12 => ?_)
  have hw := hw v11 e12
  refine z_iadd hX dJ18_bitCount_39 ?_
  refine z_istore_n hX dJ18_bitCount_40 rfl (i := 0) (Nat.le_of_ble_eq_true rfl) trivial (ls2 := [some (.int (v9 + v11))]) rfl ?_
  refine z_iload_n hX dJ18_bitCount_41 rfl (i := 0) rfl ?_
  refine z_iload_n hX dJ18_bitCount_42 rfl (i := 0) rfl ?_
  refine z_bipush hX (v := (16 : Int32)) dJ18_bitCount_43 (by decide) ?_
  refine z_iushr hX dJ18_bitCount_45 ?_
  refine z_topi (fun v13 e14 => ?_)
  have hw := hw v13 e14
  refine z_iadd hX dJ18_bitCount_46 ?_
  refine z_istore_n hX dJ18_bitCount_47 rfl (i := 0) (Nat.le_of_ble_eq_true rfl) trivial (ls2 := [some (.int ((v9 + v11) + v13))]) rfl ?_
  refine z_iload_n hX dJ18_bitCount_48 rfl (i := 0) rfl ?_
  refine z_bipush hX (v := (63 : Int32)) dJ18_bitCount_49 (by decide) ?_
  refine z_iand hX dJ18_bitCount_51 ?_
  exact z_ireturn hX hR dJ18_bitCount_52 rfl hw
abbrev cJ18_stringSize : ByteArray := prog_38_method_13_code
def yJ18_stringSize : MethodName := ⟨RJ18, "stringSize", "(I)I"⟩
def dkwJ18_stringSize_1 : List UInt8 := [164, 0, 7, 29, 27, 96, 172, 16, 10, 28, 104, 61, 132, 3, 1, 167, 255, 233, 16, 10, 27, 96, 172]
abbrev dktJ18_stringSize_1 : List UInt8 := dkwJ18_stringSize_1 ++ []
def dkwJ18_stringSize_0 : List UInt8 := [4, 60, 26, 155, 0, 8, 3, 60, 26, 116, 59, 16, 246, 61, 4, 62, 29, 16, 10, 162, 0, 23, 26, 28]
abbrev dktJ18_stringSize_0 : List UInt8 := dkwJ18_stringSize_0 ++ dktJ18_stringSize_1
theorem dksJ18_stringSize_0 : cJ18_stringSize.data.toList.drop 0 = dktJ18_stringSize_0 := by decide +kernel
theorem dksJ18_stringSize_1 : cJ18_stringSize.data.toList.drop 24 = dktJ18_stringSize_1 := dk_seg dksJ18_stringSize_0 24 rfl rfl
theorem dJ18_stringSize_0 : decode cJ18_stringSize 0 = .ok (.iconst 1, 1) := dk_4 (dk_at dksJ18_stringSize_0 0 rfl rfl)
theorem dJ18_stringSize_1 : decode cJ18_stringSize 1 = .ok (.istore_n 1, 1) := dk_60 (dk_at dksJ18_stringSize_0 1 rfl rfl)
theorem dJ18_stringSize_2 : decode cJ18_stringSize 2 = .ok (.iload_n 0, 1) := dk_26 (dk_at dksJ18_stringSize_0 2 rfl rfl)
theorem dJ18_stringSize_3 : decode cJ18_stringSize 3 = .ok (.ifCond .lt 8, 3) := dk_155 0 8 (dk_at dksJ18_stringSize_0 3 rfl rfl)
theorem dJ18_stringSize_6 : decode cJ18_stringSize 6 = .ok (.iconst 0, 1) := dk_3 (dk_at dksJ18_stringSize_0 6 rfl rfl)
theorem dJ18_stringSize_7 : decode cJ18_stringSize 7 = .ok (.istore_n 1, 1) := dk_60 (dk_at dksJ18_stringSize_0 7 rfl rfl)
theorem dJ18_stringSize_8 : decode cJ18_stringSize 8 = .ok (.iload_n 0, 1) := dk_26 (dk_at dksJ18_stringSize_0 8 rfl rfl)
theorem dJ18_stringSize_9 : decode cJ18_stringSize 9 = .ok (.ineg, 1) := dk_116 (dk_at dksJ18_stringSize_0 9 rfl rfl)
theorem dJ18_stringSize_10 : decode cJ18_stringSize 10 = .ok (.istore_n 0, 1) := dk_59 (dk_at dksJ18_stringSize_0 10 rfl rfl)
theorem dJ18_stringSize_11 : decode cJ18_stringSize 11 = .ok (.bipush (-10), 2) := dk_16 246 (dk_at dksJ18_stringSize_0 11 rfl rfl)
theorem dJ18_stringSize_13 : decode cJ18_stringSize 13 = .ok (.istore_n 2, 1) := dk_61 (dk_at dksJ18_stringSize_0 13 rfl rfl)
theorem dJ18_stringSize_14 : decode cJ18_stringSize 14 = .ok (.iconst 1, 1) := dk_4 (dk_at dksJ18_stringSize_0 14 rfl rfl)
theorem dJ18_stringSize_15 : decode cJ18_stringSize 15 = .ok (.istore_n 3, 1) := dk_62 (dk_at dksJ18_stringSize_0 15 rfl rfl)
theorem dJ18_stringSize_16 : decode cJ18_stringSize 16 = .ok (.iload_n 3, 1) := dk_29 (dk_at dksJ18_stringSize_0 16 rfl rfl)
theorem dJ18_stringSize_17 : decode cJ18_stringSize 17 = .ok (.bipush 10, 2) := dk_16 10 (dk_at dksJ18_stringSize_0 17 rfl rfl)
theorem dJ18_stringSize_19 : decode cJ18_stringSize 19 = .ok (.if_icmp .ge 23, 3) := dk_162 0 23 (dk_at dksJ18_stringSize_0 19 rfl rfl)
theorem dJ18_stringSize_22 : decode cJ18_stringSize 22 = .ok (.iload_n 0, 1) := dk_26 (dk_at dksJ18_stringSize_0 22 rfl rfl)
theorem dJ18_stringSize_23 : decode cJ18_stringSize 23 = .ok (.iload_n 2, 1) := dk_28 (dk_at dksJ18_stringSize_0 23 rfl rfl)
theorem dJ18_stringSize_24 : decode cJ18_stringSize 24 = .ok (.if_icmp .le 7, 3) := dk_164 0 7 (dk_at dksJ18_stringSize_1 0 rfl rfl)
theorem dJ18_stringSize_27 : decode cJ18_stringSize 27 = .ok (.iload_n 3, 1) := dk_29 (dk_at dksJ18_stringSize_1 3 rfl rfl)
theorem dJ18_stringSize_28 : decode cJ18_stringSize 28 = .ok (.iload_n 1, 1) := dk_27 (dk_at dksJ18_stringSize_1 4 rfl rfl)
theorem dJ18_stringSize_29 : decode cJ18_stringSize 29 = .ok (.iadd, 1) := dk_96 (dk_at dksJ18_stringSize_1 5 rfl rfl)
theorem dJ18_stringSize_30 : decode cJ18_stringSize 30 = .ok (.ireturn, 1) := dk_172 (dk_at dksJ18_stringSize_1 6 rfl rfl)
theorem dJ18_stringSize_31 : decode cJ18_stringSize 31 = .ok (.bipush 10, 2) := dk_16 10 (dk_at dksJ18_stringSize_1 7 rfl rfl)
theorem dJ18_stringSize_33 : decode cJ18_stringSize 33 = .ok (.iload_n 2, 1) := dk_28 (dk_at dksJ18_stringSize_1 9 rfl rfl)
theorem dJ18_stringSize_34 : decode cJ18_stringSize 34 = .ok (.imul, 1) := dk_104 (dk_at dksJ18_stringSize_1 10 rfl rfl)
theorem dJ18_stringSize_35 : decode cJ18_stringSize 35 = .ok (.istore_n 2, 1) := dk_61 (dk_at dksJ18_stringSize_1 11 rfl rfl)
theorem dJ18_stringSize_36 : decode cJ18_stringSize 36 = .ok (.iinc 3 1, 3) := dk_132 3 1 (dk_at dksJ18_stringSize_1 12 rfl rfl)
theorem dJ18_stringSize_39 : decode cJ18_stringSize 39 = .ok (.goto (-23), 3) := dk_167 255 233 (dk_at dksJ18_stringSize_1 15 rfl rfl)
theorem dJ18_stringSize_42 : decode cJ18_stringSize 42 = .ok (.bipush 10, 2) := dk_16 10 (dk_at dksJ18_stringSize_1 18 rfl rfl)
theorem dJ18_stringSize_44 : decode cJ18_stringSize 44 = .ok (.iload_n 1, 1) := dk_27 (dk_at dksJ18_stringSize_1 20 rfl rfl)
theorem dJ18_stringSize_45 : decode cJ18_stringSize 45 = .ok (.iadd, 1) := dk_96 (dk_at dksJ18_stringSize_1 21 rfl rfl)
theorem dJ18_stringSize_46 : decode cJ18_stringSize 46 = .ok (.ireturn, 1) := dk_172 (dk_at dksJ18_stringSize_1 22 rfl rfl)
/-- java/lang/Integer.stringSize(I)I -/
def zb434 (G : zPg) (C : zO) (args : List Value) (Q : zQ) (Y : zY) (σ : zS) : Prop := ∃ (x1 : Int32), args = [.int x1] ∧ (zJ (fun (p1 : Int32) (p2 : Int32) (s3 : zS) => ∃ n, zIt (fun _ _ _ => False) (fun rec8 (p5 : Int32) (p6 : Int32) (s7 : zS) => (((10 : Int32) ≤ p6) → Q (some (.int ((10 : Int32) + p2))) s7) ∧ ((¬ (10 : Int32) ≤ p6) → ((p1 ≤ p5) → (∀ v11 : Int32, v11 = p6 + (1 : Int32) → rec8 ((10 : Int32) * p5) v11 s7)) ∧ ((¬ p1 ≤ p5) → Q (some (.int (p6 + p2))) s7))) n (-10 : Int32) (1 : Int32) s3) (fun (j4 : Int32 → Int32 → zS → Prop) => ((x1 < 0) → j4 x1 (1 : Int32) σ) ∧ ((¬ x1 < 0) → j4 (-x1) (0 : Int32) σ)))
set_option maxHeartbeats 4000000 in
theorem wk434 {l : Launch} {g : zG} {d : Nat} {C : zO} (hG : zGk g) (hC : zSound l g d C) {args : List Value} {Q : zQ} {Y : zY} {σ : zS} (hw : zb434 (zpg g) C args Q Y σ) : zMet l g (d + 1) (⟨"java/lang/Integer", "stringSize", "(I)I"⟩, Cond.code ⟨"java/lang/Integer", "stringSize", "(I)I"⟩ prog_38_method_13_code 4 (Option.some FieldType.int)) args σ Q Y := by
  obtain ⟨x1, rfl, hw⟩ := hw
  refine zof hG (by decide +kernel) [false] ⟨rfl, trivial⟩ (Nat.le_of_ble_eq_true rfl) (ls := [some (.int x1), none, none, none]) rfl ?_
  intro X hX hR hTb hd1 hd2 hl hg hnm
  subst hl
  subst hg
  have hd : zDep X d := ⟨hd1, hd2⟩
  refine z_iconst hX (v := (1 : Int32)) dJ18_stringSize_0 (by decide) ?_
  refine z_istore_n hX dJ18_stringSize_1 rfl (i := 1) (Nat.le_of_ble_eq_true rfl) rfl (ls2 := [some (.int x1), some (.int (1 : Int32)), none, none]) rfl ?_
  refine z_iload_n hX dJ18_stringSize_2 rfl (i := 0) rfl ?_
  refine zJ_w (P := fun (j : Int32 → Int32 → zS → Prop) => ∀ (p1 : Int32) (p2 : Int32) (s3 : zS), j p1 p2 s3 → zW X s3 11 [some (.int p1), some (.int p2), none, none] []) hw (fun p1 p2 s3 hw => ?_) (fun j4 hj4 hw => ?_)
  · refine z_bipush hX (v := (-10 : Int32)) dJ18_stringSize_11 (by decide) ?_
    refine z_istore_n hX dJ18_stringSize_13 rfl (i := 2) (Nat.le_of_ble_eq_true rfl) rfl (ls2 := [some (.int p1), some (.int p2), some (.int (-10 : Int32)), none]) rfl ?_
    refine z_iconst hX (v := (1 : Int32)) dJ18_stringSize_14 (by decide) ?_
    refine z_istore_n hX dJ18_stringSize_15 rfl (i := 3) (Nat.le_of_ble_eq_true rfl) rfl (ls2 := [some (.int p1), some (.int p2), some (.int (-10 : Int32)), some (.int (1 : Int32))]) rfl ?_
    obtain ⟨n13, hw⟩ := hw
    refine zIt_w (P := fun (j : Int32 → Int32 → zS → Prop) => ∀ (p5 : Int32) (p6 : Int32) (s7 : zS), j p5 p6 s7 → zW X s7 16 [some (.int p1), some (.int p2), some (.int p5), some (.int p6)] []) (fun _ _ _ h => h.elim) (fun rec8 hrec8 p5 p6 s7 hw => ?_) n13 _ _ _ hw
    refine z_iload_n hX dJ18_stringSize_16 rfl (i := 3) rfl ?_
    refine z_bipush hX (v := (10 : Int32)) dJ18_stringSize_17 (by decide) ?_
    refine z_icmp_ge hX dJ18_stringSize_19 (tgt := 42) rfl (fun c9 => ?_) (fun c9 => ?_)
    · have hw := hw.1 c9
      refine z_bipush hX (v := (10 : Int32)) dJ18_stringSize_42 (by decide) ?_
      refine z_iload_n hX dJ18_stringSize_44 rfl (i := 1) rfl ?_
      refine z_iadd hX dJ18_stringSize_45 ?_
      exact z_ireturn hX hR dJ18_stringSize_46 rfl hw
    · have hw := hw.2 c9
      refine z_iload_n hX dJ18_stringSize_22 rfl (i := 0) rfl ?_
      refine z_iload_n hX dJ18_stringSize_23 rfl (i := 2) rfl ?_
      refine z_icmp_le hX dJ18_stringSize_24 (tgt := 31) rfl (fun c10 => ?_) (fun c10 => ?_)
      · have hw := hw.1 c10
        refine z_bipush hX (v := (10 : Int32)) dJ18_stringSize_31 (by decide) ?_
        refine z_iload_n hX dJ18_stringSize_33 rfl (i := 2) rfl ?_
        refine z_imul hX dJ18_stringSize_34 ?_
        refine z_istore_n hX dJ18_stringSize_35 rfl (i := 2) (Nat.le_of_ble_eq_true rfl) rfl (ls2 := [some (.int p1), some (.int p2), some (.int ((10 : Int32) * p5)), some (.int p6)]) rfl ?_
        obtain ⟨v11, e12⟩ : ∃ y : Int32, y = p6 + (1 : Int32) := ⟨_, rfl⟩
        refine z_iinc hX dJ18_stringSize_36 (i := 3) (v := v11) rfl (by rw [e12]; rfl) (Nat.le_of_ble_eq_true rfl) rfl (ls2 := [some (.int p1), some (.int p2), some (.int ((10 : Int32) * p5)), some (.int v11)]) rfl ?_
        have hw := hw v11 e12
        refine z_goto hX dJ18_stringSize_39 (tgt := 16) rfl ?_
        exact hrec8 _ _ _ hw
      · have hw := hw.2 c10
        refine z_iload_n hX dJ18_stringSize_27 rfl (i := 3) rfl ?_
        refine z_iload_n hX dJ18_stringSize_28 rfl (i := 1) rfl ?_
        refine z_iadd hX dJ18_stringSize_29 ?_
        exact z_ireturn hX hR dJ18_stringSize_30 rfl hw
  · refine z_if_lt hX dJ18_stringSize_3 (tgt := 11) rfl (fun c14 => ?_) (fun c14 => ?_)
    · have hw := hw.1 c14
      exact hj4 _ _ _ hw
    · have hw := hw.2 c14
      refine z_iconst hX (v := (0 : Int32)) dJ18_stringSize_6 (by decide) ?_
      refine z_istore_n hX dJ18_stringSize_7 rfl (i := 1) (Nat.le_of_ble_eq_true rfl) rfl (ls2 := [some (.int x1), some (.int (0 : Int32)), none, none]) rfl ?_
      refine z_iload_n hX dJ18_stringSize_8 rfl (i := 0) rfl ?_
      refine z_ineg hX dJ18_stringSize_9 ?_
      refine z_istore_n hX dJ18_stringSize_10 rfl (i := 0) (Nat.le_of_ble_eq_true rfl) trivial (ls2 := [some (.int (-x1)), some (.int (0 : Int32)), none, none]) rfl ?_
      exact hj4 _ _ _ hw
abbrev cJ18_getChars : ByteArray := prog_38_method_12_code
def yJ18_getChars : MethodName := ⟨RJ18, "getChars", "(II[B)I"⟩
def dkwJ18_getChars_5 : List UInt8 := [16, 45, 84, 21, 5, 172]
abbrev dktJ18_getChars_5 : List UInt8 := dkwJ18_getChars_5 ++ []
def dkwJ18_getChars_4 : List UInt8 := [132, 5, 255, 21, 5, 178, 0, 87, 26, 116, 51, 84, 21, 6, 153, 0, 12, 44, 132, 5, 255, 21, 5]
abbrev dktJ18_getChars_4 : List UInt8 := dkwJ18_getChars_4 ++ dktJ18_getChars_5
def dkwJ18_getChars_3 : List UInt8 := [167, 255, 209, 44, 132, 5, 255, 21, 5, 178, 0, 83, 26, 116, 51, 84, 26, 16, 247, 162, 0, 16, 44]
abbrev dktJ18_getChars_3 : List UInt8 := dkwJ18_getChars_3 ++ dktJ18_getChars_4
def dkwJ18_getChars_2 : List UInt8 := [21, 5, 178, 0, 83, 21, 4, 51, 84, 44, 132, 5, 255, 21, 5, 178, 0, 87, 21, 4, 51, 84]
abbrev dktJ18_getChars_2 : List UInt8 := dkwJ18_getChars_2 ++ dktJ18_getChars_3
def dkwJ18_getChars_1 : List UInt8 := [16, 156, 163, 0, 47, 26, 16, 100, 108, 62, 29, 16, 100, 104, 26, 100, 54, 4, 29, 59, 44, 132, 5, 255]
abbrev dktJ18_getChars_1 : List UInt8 := dkwJ18_getChars_1 ++ dktJ18_getChars_2
def dkwJ18_getChars_0 : List UInt8 := [27, 54, 5, 26, 156, 0, 7, 4, 167, 0, 4, 3, 54, 6, 21, 6, 154, 0, 6, 26, 116, 59, 26]
abbrev dktJ18_getChars_0 : List UInt8 := dkwJ18_getChars_0 ++ dktJ18_getChars_1
theorem dksJ18_getChars_0 : cJ18_getChars.data.toList.drop 0 = dktJ18_getChars_0 := by decide +kernel
theorem dksJ18_getChars_1 : cJ18_getChars.data.toList.drop 23 = dktJ18_getChars_1 := dk_seg dksJ18_getChars_0 23 rfl rfl
theorem dksJ18_getChars_2 : cJ18_getChars.data.toList.drop 47 = dktJ18_getChars_2 := dk_seg dksJ18_getChars_1 24 rfl rfl
theorem dksJ18_getChars_3 : cJ18_getChars.data.toList.drop 69 = dktJ18_getChars_3 := dk_seg dksJ18_getChars_2 22 rfl rfl
theorem dksJ18_getChars_4 : cJ18_getChars.data.toList.drop 92 = dktJ18_getChars_4 := dk_seg dksJ18_getChars_3 23 rfl rfl
theorem dksJ18_getChars_5 : cJ18_getChars.data.toList.drop 115 = dktJ18_getChars_5 := dk_seg dksJ18_getChars_4 23 rfl rfl
theorem dJ18_getChars_0 : decode cJ18_getChars 0 = .ok (.iload_n 1, 1) := dk_27 (dk_at dksJ18_getChars_0 0 rfl rfl)
theorem dJ18_getChars_1 : decode cJ18_getChars 1 = .ok (.istore 5, 2) := dk_54 5 (dk_at dksJ18_getChars_0 1 rfl rfl)
theorem dJ18_getChars_3 : decode cJ18_getChars 3 = .ok (.iload_n 0, 1) := dk_26 (dk_at dksJ18_getChars_0 3 rfl rfl)
theorem dJ18_getChars_4 : decode cJ18_getChars 4 = .ok (.ifCond .ge 7, 3) := dk_156 0 7 (dk_at dksJ18_getChars_0 4 rfl rfl)
theorem dJ18_getChars_7 : decode cJ18_getChars 7 = .ok (.iconst 1, 1) := dk_4 (dk_at dksJ18_getChars_0 7 rfl rfl)
theorem dJ18_getChars_8 : decode cJ18_getChars 8 = .ok (.goto 4, 3) := dk_167 0 4 (dk_at dksJ18_getChars_0 8 rfl rfl)
theorem dJ18_getChars_11 : decode cJ18_getChars 11 = .ok (.iconst 0, 1) := dk_3 (dk_at dksJ18_getChars_0 11 rfl rfl)
theorem dJ18_getChars_12 : decode cJ18_getChars 12 = .ok (.istore 6, 2) := dk_54 6 (dk_at dksJ18_getChars_0 12 rfl rfl)
theorem dJ18_getChars_14 : decode cJ18_getChars 14 = .ok (.iload 6, 2) := dk_21 6 (dk_at dksJ18_getChars_0 14 rfl rfl)
theorem dJ18_getChars_16 : decode cJ18_getChars 16 = .ok (.ifCond .ne 6, 3) := dk_154 0 6 (dk_at dksJ18_getChars_0 16 rfl rfl)
theorem dJ18_getChars_19 : decode cJ18_getChars 19 = .ok (.iload_n 0, 1) := dk_26 (dk_at dksJ18_getChars_0 19 rfl rfl)
theorem dJ18_getChars_20 : decode cJ18_getChars 20 = .ok (.ineg, 1) := dk_116 (dk_at dksJ18_getChars_0 20 rfl rfl)
theorem dJ18_getChars_21 : decode cJ18_getChars 21 = .ok (.istore_n 0, 1) := dk_59 (dk_at dksJ18_getChars_0 21 rfl rfl)
theorem dJ18_getChars_22 : decode cJ18_getChars 22 = .ok (.iload_n 0, 1) := dk_26 (dk_at dksJ18_getChars_0 22 rfl rfl)
theorem dJ18_getChars_23 : decode cJ18_getChars 23 = .ok (.bipush (-100), 2) := dk_16 156 (dk_at dksJ18_getChars_1 0 rfl rfl)
theorem dJ18_getChars_25 : decode cJ18_getChars 25 = .ok (.if_icmp .gt 47, 3) := dk_163 0 47 (dk_at dksJ18_getChars_1 2 rfl rfl)
theorem dJ18_getChars_28 : decode cJ18_getChars 28 = .ok (.iload_n 0, 1) := dk_26 (dk_at dksJ18_getChars_1 5 rfl rfl)
theorem dJ18_getChars_29 : decode cJ18_getChars 29 = .ok (.bipush 100, 2) := dk_16 100 (dk_at dksJ18_getChars_1 6 rfl rfl)
theorem dJ18_getChars_31 : decode cJ18_getChars 31 = .ok (.idiv, 1) := dk_108 (dk_at dksJ18_getChars_1 8 rfl rfl)
theorem dJ18_getChars_32 : decode cJ18_getChars 32 = .ok (.istore_n 3, 1) := dk_62 (dk_at dksJ18_getChars_1 9 rfl rfl)
theorem dJ18_getChars_33 : decode cJ18_getChars 33 = .ok (.iload_n 3, 1) := dk_29 (dk_at dksJ18_getChars_1 10 rfl rfl)
theorem dJ18_getChars_34 : decode cJ18_getChars 34 = .ok (.bipush 100, 2) := dk_16 100 (dk_at dksJ18_getChars_1 11 rfl rfl)
theorem dJ18_getChars_36 : decode cJ18_getChars 36 = .ok (.imul, 1) := dk_104 (dk_at dksJ18_getChars_1 13 rfl rfl)
theorem dJ18_getChars_37 : decode cJ18_getChars 37 = .ok (.iload_n 0, 1) := dk_26 (dk_at dksJ18_getChars_1 14 rfl rfl)
theorem dJ18_getChars_38 : decode cJ18_getChars 38 = .ok (.isub, 1) := dk_100 (dk_at dksJ18_getChars_1 15 rfl rfl)
theorem dJ18_getChars_39 : decode cJ18_getChars 39 = .ok (.istore 4, 2) := dk_54 4 (dk_at dksJ18_getChars_1 16 rfl rfl)
theorem dJ18_getChars_41 : decode cJ18_getChars 41 = .ok (.iload_n 3, 1) := dk_29 (dk_at dksJ18_getChars_1 18 rfl rfl)
theorem dJ18_getChars_42 : decode cJ18_getChars 42 = .ok (.istore_n 0, 1) := dk_59 (dk_at dksJ18_getChars_1 19 rfl rfl)
theorem dJ18_getChars_43 : decode cJ18_getChars 43 = .ok (.aload_n 2, 1) := dk_44 (dk_at dksJ18_getChars_1 20 rfl rfl)
theorem dJ18_getChars_44 : decode cJ18_getChars 44 = .ok (.iinc 5 (-1), 3) := dk_132 5 255 (dk_at dksJ18_getChars_1 21 rfl rfl)
theorem dJ18_getChars_47 : decode cJ18_getChars 47 = .ok (.iload 5, 2) := dk_21 5 (dk_at dksJ18_getChars_2 0 rfl rfl)
theorem dJ18_getChars_49 : decode cJ18_getChars 49 = .ok (.getstatic 83, 3) := dk_178 0 83 (dk_at dksJ18_getChars_2 2 rfl rfl)
theorem dJ18_getChars_52 : decode cJ18_getChars 52 = .ok (.iload 4, 2) := dk_21 4 (dk_at dksJ18_getChars_2 5 rfl rfl)
theorem dJ18_getChars_54 : decode cJ18_getChars 54 = .ok (.baload, 1) := dk_51 (dk_at dksJ18_getChars_2 7 rfl rfl)
theorem dJ18_getChars_55 : decode cJ18_getChars 55 = .ok (.bastore, 1) := dk_84 (dk_at dksJ18_getChars_2 8 rfl rfl)
theorem dJ18_getChars_56 : decode cJ18_getChars 56 = .ok (.aload_n 2, 1) := dk_44 (dk_at dksJ18_getChars_2 9 rfl rfl)
theorem dJ18_getChars_57 : decode cJ18_getChars 57 = .ok (.iinc 5 (-1), 3) := dk_132 5 255 (dk_at dksJ18_getChars_2 10 rfl rfl)
theorem dJ18_getChars_60 : decode cJ18_getChars 60 = .ok (.iload 5, 2) := dk_21 5 (dk_at dksJ18_getChars_2 13 rfl rfl)
theorem dJ18_getChars_62 : decode cJ18_getChars 62 = .ok (.getstatic 87, 3) := dk_178 0 87 (dk_at dksJ18_getChars_2 15 rfl rfl)
theorem dJ18_getChars_65 : decode cJ18_getChars 65 = .ok (.iload 4, 2) := dk_21 4 (dk_at dksJ18_getChars_2 18 rfl rfl)
theorem dJ18_getChars_67 : decode cJ18_getChars 67 = .ok (.baload, 1) := dk_51 (dk_at dksJ18_getChars_2 20 rfl rfl)
theorem dJ18_getChars_68 : decode cJ18_getChars 68 = .ok (.bastore, 1) := dk_84 (dk_at dksJ18_getChars_2 21 rfl rfl)
theorem dJ18_getChars_69 : decode cJ18_getChars 69 = .ok (.goto (-47), 3) := dk_167 255 209 (dk_at dksJ18_getChars_3 0 rfl rfl)
theorem dJ18_getChars_72 : decode cJ18_getChars 72 = .ok (.aload_n 2, 1) := dk_44 (dk_at dksJ18_getChars_3 3 rfl rfl)
theorem dJ18_getChars_73 : decode cJ18_getChars 73 = .ok (.iinc 5 (-1), 3) := dk_132 5 255 (dk_at dksJ18_getChars_3 4 rfl rfl)
theorem dJ18_getChars_76 : decode cJ18_getChars 76 = .ok (.iload 5, 2) := dk_21 5 (dk_at dksJ18_getChars_3 7 rfl rfl)
theorem dJ18_getChars_78 : decode cJ18_getChars 78 = .ok (.getstatic 83, 3) := dk_178 0 83 (dk_at dksJ18_getChars_3 9 rfl rfl)
theorem dJ18_getChars_81 : decode cJ18_getChars 81 = .ok (.iload_n 0, 1) := dk_26 (dk_at dksJ18_getChars_3 12 rfl rfl)
theorem dJ18_getChars_82 : decode cJ18_getChars 82 = .ok (.ineg, 1) := dk_116 (dk_at dksJ18_getChars_3 13 rfl rfl)
theorem dJ18_getChars_83 : decode cJ18_getChars 83 = .ok (.baload, 1) := dk_51 (dk_at dksJ18_getChars_3 14 rfl rfl)
theorem dJ18_getChars_84 : decode cJ18_getChars 84 = .ok (.bastore, 1) := dk_84 (dk_at dksJ18_getChars_3 15 rfl rfl)
theorem dJ18_getChars_85 : decode cJ18_getChars 85 = .ok (.iload_n 0, 1) := dk_26 (dk_at dksJ18_getChars_3 16 rfl rfl)
theorem dJ18_getChars_86 : decode cJ18_getChars 86 = .ok (.bipush (-9), 2) := dk_16 247 (dk_at dksJ18_getChars_3 17 rfl rfl)
theorem dJ18_getChars_88 : decode cJ18_getChars 88 = .ok (.if_icmp .ge 16, 3) := dk_162 0 16 (dk_at dksJ18_getChars_3 19 rfl rfl)
theorem dJ18_getChars_91 : decode cJ18_getChars 91 = .ok (.aload_n 2, 1) := dk_44 (dk_at dksJ18_getChars_3 22 rfl rfl)
theorem dJ18_getChars_92 : decode cJ18_getChars 92 = .ok (.iinc 5 (-1), 3) := dk_132 5 255 (dk_at dksJ18_getChars_4 0 rfl rfl)
theorem dJ18_getChars_95 : decode cJ18_getChars 95 = .ok (.iload 5, 2) := dk_21 5 (dk_at dksJ18_getChars_4 3 rfl rfl)
theorem dJ18_getChars_97 : decode cJ18_getChars 97 = .ok (.getstatic 87, 3) := dk_178 0 87 (dk_at dksJ18_getChars_4 5 rfl rfl)
theorem dJ18_getChars_100 : decode cJ18_getChars 100 = .ok (.iload_n 0, 1) := dk_26 (dk_at dksJ18_getChars_4 8 rfl rfl)
theorem dJ18_getChars_101 : decode cJ18_getChars 101 = .ok (.ineg, 1) := dk_116 (dk_at dksJ18_getChars_4 9 rfl rfl)
theorem dJ18_getChars_102 : decode cJ18_getChars 102 = .ok (.baload, 1) := dk_51 (dk_at dksJ18_getChars_4 10 rfl rfl)
theorem dJ18_getChars_103 : decode cJ18_getChars 103 = .ok (.bastore, 1) := dk_84 (dk_at dksJ18_getChars_4 11 rfl rfl)
theorem dJ18_getChars_104 : decode cJ18_getChars 104 = .ok (.iload 6, 2) := dk_21 6 (dk_at dksJ18_getChars_4 12 rfl rfl)
theorem dJ18_getChars_106 : decode cJ18_getChars 106 = .ok (.ifCond .eq 12, 3) := dk_153 0 12 (dk_at dksJ18_getChars_4 14 rfl rfl)
theorem dJ18_getChars_109 : decode cJ18_getChars 109 = .ok (.aload_n 2, 1) := dk_44 (dk_at dksJ18_getChars_4 17 rfl rfl)
theorem dJ18_getChars_110 : decode cJ18_getChars 110 = .ok (.iinc 5 (-1), 3) := dk_132 5 255 (dk_at dksJ18_getChars_4 18 rfl rfl)
theorem dJ18_getChars_113 : decode cJ18_getChars 113 = .ok (.iload 5, 2) := dk_21 5 (dk_at dksJ18_getChars_4 21 rfl rfl)
theorem dJ18_getChars_115 : decode cJ18_getChars 115 = .ok (.bipush 45, 2) := dk_16 45 (dk_at dksJ18_getChars_5 0 rfl rfl)
theorem dJ18_getChars_117 : decode cJ18_getChars 117 = .ok (.bastore, 1) := dk_84 (dk_at dksJ18_getChars_5 2 rfl rfl)
theorem dJ18_getChars_118 : decode cJ18_getChars 118 = .ok (.iload 5, 2) := dk_21 5 (dk_at dksJ18_getChars_5 3 rfl rfl)
theorem dJ18_getChars_120 : decode cJ18_getChars 120 = .ok (.ireturn, 1) := dk_172 (dk_at dksJ18_getChars_5 5 rfl rfl)
/-- java/lang/Integer.getChars(II[B)I -/
def zb435 (G : zPg) (C : zO) (args : List Value) (Q : zQ) (Y : zY) (σ : zS) : Prop := ∃ (x1 : Int32) (x2 : Int32) (x3 : Option Nat), args = [.int x1, .int x2, va_rf x3] ∧ (zJ (fun (p1 : Int32) (s2 : zS) => zJ (fun (p4 : Int32) (p5 : Int32) (s6 : zS) => ∃ n, zIt (fun _ _ _ => False) (fun rec11 (p8 : Int32) (p9 : Int32) (s10 : zS) => (((-100 : Int32) < p8) → (∀ v13 : Int32, v13 = p9 + (-1 : Int32) → zaI s10 2 (some (G.2 57)) (-p8) (fun v21 => zsI s10 G.1 2 x3 v13 (vp_nar .byte v21) (fun s30 => zJ (fun (p32 : Int32) (s33 : zS) => zJ (fun (p35 : Int32) (s36 : zS) => Q (some (.int p35)) s36) (fun (j37 : Int32 → zS → Prop) => ((p1 = 0) → j37 p32 s33) ∧ ((¬ p1 = 0) → (∀ v39 : Int32, v39 = p32 + (-1 : Int32) → zsI s33 G.1 2 x3 v39 (vp_nar .byte (45 : Int32)) (fun s48 => j37 v39 s48))))) (fun (j34 : Int32 → zS → Prop) => (((-9 : Int32) ≤ p8) → j34 v13 s30) ∧ ((¬ (-9 : Int32) ≤ p8) → (∀ v51 : Int32, v51 = v13 + (-1 : Int32) → zaI s30 2 (some (G.2 56)) (-p8) (fun v59 => zsI s30 G.1 2 x3 v51 (vp_nar .byte v59) (fun s68 => j34 v51 s68))))))))) ∧ ((¬ (-100 : Int32) < p8) → (¬ (100 : Int32) = 0 ∧ (∀ v70 : Int32, v70 = (((p8 / (100 : Int32)) * (100 : Int32)) - p8) → (∀ v72 : Int32, v72 = p9 + (-1 : Int32) → zaI s10 2 (some (G.2 57)) v70 (fun v80 => zsI s10 G.1 2 x3 v72 (vp_nar .byte v80) (fun s89 => (∀ v91 : Int32, v91 = v72 + (-1 : Int32) → zaI s89 2 (some (G.2 56)) v70 (fun v99 => zsI s89 G.1 2 x3 v91 (vp_nar .byte v99) (fun s108 => rec11 (p8 / (100 : Int32)) v91 s108)))))))))) n p4 p5 s6) (fun (j7 : Int32 → Int32 → zS → Prop) => ((¬ p1 = 0) → j7 x1 x2 s2) ∧ ((p1 = 0) → j7 (-x1) x2 s2))) (fun (j3 : Int32 → zS → Prop) => ((0 ≤ x1) → j3 (0 : Int32) σ) ∧ ((¬ 0 ≤ x1) → j3 (1 : Int32) σ)))
set_option maxHeartbeats 4000000 in
theorem wk435 {l : Launch} {g : zG} {d : Nat} {C : zO} (hG : zGk g) (hC : zSound l g d C) {args : List Value} {Q : zQ} {Y : zY} {σ : zS} (hw : zb435 (zpg g) C args Q Y σ) : zMet l g (d + 1) (⟨"java/lang/Integer", "getChars", "(II[B)I"⟩, Cond.code ⟨"java/lang/Integer", "getChars", "(II[B)I"⟩ prog_38_method_12_code 7 (Option.some FieldType.int)) args σ Q Y := by
  obtain ⟨x1, x2, x3, rfl, hw⟩ := hw
  refine zof hG (by decide +kernel) [false, false, false] ⟨rfl, rfl, (zc_rf _), trivial⟩ (Nat.le_of_ble_eq_true rfl) (ls := [some (.int x1), some (.int x2), some (va_rf x3), none, none, none, none]) rfl ?_
  intro X hX hR hTb hd1 hd2 hl hg hnm
  subst hl
  subst hg
  have hd : zDep X d := ⟨hd1, hd2⟩
  refine z_iload_n hX dJ18_getChars_0 rfl (i := 1) rfl ?_
  refine z_istore hX dJ18_getChars_1 (i := 5) (Nat.le_of_ble_eq_true rfl) trivial (ls2 := [some (.int x1), some (.int x2), some (va_rf x3), none, none, some (.int x2), none]) rfl ?_
  refine z_iload_n hX dJ18_getChars_3 rfl (i := 0) rfl ?_
  refine zJ_w (P := fun (j : Int32 → zS → Prop) => ∀ (p1 : Int32) (s2 : zS), j p1 s2 → zW X s2 12 [some (.int x1), none, some (va_rf x3), none, none, some (.int x2), none] [.int p1]) hw (fun p1 s2 hw => ?_) (fun j3 hj3 hw => ?_)
  · refine z_istore hX dJ18_getChars_12 (i := 6) (Nat.le_of_ble_eq_true rfl) rfl (ls2 := [some (.int x1), none, some (va_rf x3), none, none, some (.int x2), some (.int p1)]) rfl ?_
    refine z_iload hX dJ18_getChars_14 (i := 6) rfl ?_
    refine zJ_w (P := fun (j : Int32 → Int32 → zS → Prop) => ∀ (p4 : Int32) (p5 : Int32) (s6 : zS), j p4 p5 s6 → zW X s6 22 [some (.int p4), none, some (va_rf x3), none, none, some (.int p5), some (.int p1)] []) hw (fun p4 p5 s6 hw => ?_) (fun j7 hj7 hw => ?_)
    · obtain ⟨n110, hw⟩ := hw
      refine zIt_w (P := fun (j : Int32 → Int32 → zS → Prop) => ∀ (p8 : Int32) (p9 : Int32) (s10 : zS), j p8 p9 s10 → zW X s10 22 [some (.int p8), none, some (va_rf x3), none, none, some (.int p9), some (.int p1)] []) (fun _ _ _ h => h.elim) (fun rec11 hrec11 p8 p9 s10 hw => ?_) n110 _ _ _ hw
      refine z_iload_n hX dJ18_getChars_22 rfl (i := 0) rfl ?_
      refine z_bipush hX (v := (-100 : Int32)) dJ18_getChars_23 (by decide) ?_
      refine z_icmp_gt hX dJ18_getChars_25 (tgt := 72) rfl (fun c12 => ?_) (fun c12 => ?_)
      · have hw := hw.1 c12
        refine z_aload_n hX dJ18_getChars_72 rfl (i := 2) rfl ?_
        obtain ⟨v13, e14⟩ : ∃ y : Int32, y = p9 + (-1 : Int32) := ⟨_, rfl⟩
        refine z_iinc hX dJ18_getChars_73 (i := 5) (v := v13) rfl (by rw [e14]; rfl) (Nat.le_of_ble_eq_true rfl) trivial (ls2 := [some (.int p8), none, some (va_rf x3), none, none, some (.int v13), some (.int p1)]) rfl ?_
        have hw := hw v13 e14
        refine z_iload hX dJ18_getChars_76 (i := 5) rfl ?_
        refine z_gets hX dJ18_getChars_78 (List.mem_of_getElem? (i := 7) rfl) q1254 rfl ?_
        show zW _ _ _ _ (va_rf (some (X.g.2.2.2 57)) :: _)
        refine z_iload_n hX dJ18_getChars_81 rfl (i := 0) rfl ?_
        refine z_ineg hX dJ18_getChars_82 ?_
        obtain ⟨a15, n16, f17, r18, m19, i20, hw⟩ := hw
        refine z_bald hX dJ18_getChars_83 r18 m19 i20 ?_
        revert hw
        generalize f17 (Int32.toNatClampNeg (-p8)) = v21
        intro hw
        obtain ⟨a23, n24, f25, r26, g27, m28, i29, hw⟩ := hw
        refine z_bast hX dJ18_getChars_84 r26 g27 m28 i29 (z_nm (fun s30 e31 => ?_))
        have hw := hw s30 e31
        refine z_iload_n hX dJ18_getChars_85 rfl (i := 0) rfl ?_
        refine z_bipush hX (v := (-9 : Int32)) dJ18_getChars_86 (by decide) ?_
        refine zJ_w (P := fun (j : Int32 → zS → Prop) => ∀ (p32 : Int32) (s33 : zS), j p32 s33 → zW X s33 104 [none, none, some (va_rf x3), none, none, some (.int p32), some (.int p1)] []) hw (fun p32 s33 hw => ?_) (fun j34 hj34 hw => ?_)
        · refine z_iload hX dJ18_getChars_104 (i := 6) rfl ?_
          refine zJ_w (P := fun (j : Int32 → zS → Prop) => ∀ (p35 : Int32) (s36 : zS), j p35 s36 → zW X s36 118 [none, none, none, none, none, some (.int p35), none] []) hw (fun p35 s36 hw => ?_) (fun j37 hj37 hw => ?_)
          · refine z_iload hX dJ18_getChars_118 (i := 5) rfl ?_
            exact z_ireturn hX hR dJ18_getChars_120 rfl hw
          · refine z_if_eq hX dJ18_getChars_106 (tgt := 118) rfl (fun c38 => ?_) (fun c38 => ?_)
            · have hw := hw.1 c38
              refine z_sub (ls' := [none, none, none, none, none, some (.int p32), none]) (zsN (zsN (zsN (zsN (zsN (zsS (zsN (zs0)))))))) ?_
              exact hj37 _ _ hw
            · have hw := hw.2 c38
              refine z_aload_n hX dJ18_getChars_109 rfl (i := 2) rfl ?_
              obtain ⟨v39, e40⟩ : ∃ y : Int32, y = p32 + (-1 : Int32) := ⟨_, rfl⟩
              refine z_iinc hX dJ18_getChars_110 (i := 5) (v := v39) rfl (by rw [e40]; rfl) (Nat.le_of_ble_eq_true rfl) trivial (ls2 := [none, none, some (va_rf x3), none, none, some (.int v39), some (.int p1)]) rfl ?_
              have hw := hw v39 e40
              refine z_iload hX dJ18_getChars_113 (i := 5) rfl ?_
              refine z_bipush hX (v := (45 : Int32)) dJ18_getChars_115 (by decide) ?_
              obtain ⟨a41, n42, f43, r44, g45, m46, i47, hw⟩ := hw
              refine z_bast hX dJ18_getChars_117 r44 g45 m46 i47 (z_nm (fun s48 e49 => ?_))
              have hw := hw s48 e49
              refine z_sub (ls' := [none, none, none, none, none, some (.int v39), none]) (zsN (zsN (zsN (zsN (zsN (zsS (zsN (zs0)))))))) ?_
              exact hj37 _ _ hw
        · refine z_icmp_ge hX dJ18_getChars_88 (tgt := 104) rfl (fun c50 => ?_) (fun c50 => ?_)
          · have hw := hw.1 c50
            refine z_sub (ls' := [none, none, some (va_rf x3), none, none, some (.int v13), some (.int p1)]) (zsN (zsN (zsS (zsN (zsN (zsS (zsS (zs0)))))))) ?_
            exact hj34 _ _ hw
          · have hw := hw.2 c50
            refine z_aload_n hX dJ18_getChars_91 rfl (i := 2) rfl ?_
            obtain ⟨v51, e52⟩ : ∃ y : Int32, y = v13 + (-1 : Int32) := ⟨_, rfl⟩
            refine z_iinc hX dJ18_getChars_92 (i := 5) (v := v51) rfl (by rw [e52]; rfl) (Nat.le_of_ble_eq_true rfl) trivial (ls2 := [some (.int p8), none, some (va_rf x3), none, none, some (.int v51), some (.int p1)]) rfl ?_
            have hw := hw v51 e52
            refine z_iload hX dJ18_getChars_95 (i := 5) rfl ?_
            refine z_gets hX dJ18_getChars_97 (List.mem_of_getElem? (i := 6) rfl) q1256 rfl ?_
            show zW _ _ _ _ (va_rf (some (X.g.2.2.2 56)) :: _)
            refine z_iload_n hX dJ18_getChars_100 rfl (i := 0) rfl ?_
            refine z_ineg hX dJ18_getChars_101 ?_
            obtain ⟨a53, n54, f55, r56, m57, i58, hw⟩ := hw
            refine z_bald hX dJ18_getChars_102 r56 m57 i58 ?_
            revert hw
            generalize f55 (Int32.toNatClampNeg (-p8)) = v59
            intro hw
            obtain ⟨a61, n62, f63, r64, g65, m66, i67, hw⟩ := hw
            refine z_bast hX dJ18_getChars_103 r64 g65 m66 i67 (z_nm (fun s68 e69 => ?_))
            have hw := hw s68 e69
            refine z_sub (ls' := [none, none, some (va_rf x3), none, none, some (.int v51), some (.int p1)]) (zsN (zsN (zsS (zsN (zsN (zsS (zsS (zs0)))))))) ?_
            exact hj34 _ _ hw
      · have hw := hw.2 c12
        refine z_iload_n hX dJ18_getChars_28 rfl (i := 0) rfl ?_
        refine z_bipush hX (v := (100 : Int32)) dJ18_getChars_29 (by decide) ?_
        refine z_idiv hX dJ18_getChars_31 hw.1 ?_
        have hw := hw.2
        refine z_istore_n hX dJ18_getChars_32 rfl (i := 3) (Nat.le_of_ble_eq_true rfl) (zc_rf _) (ls2 := [some (.int p8), none, some (va_rf x3), some (.int (p8 / (100 : Int32))), none, some (.int p9), some (.int p1)]) rfl ?_
        refine z_iload_n hX dJ18_getChars_33 rfl (i := 3) rfl ?_
        refine z_bipush hX (v := (100 : Int32)) dJ18_getChars_34 (by decide) ?_
        refine z_imul hX dJ18_getChars_36 ?_
        refine z_iload_n hX dJ18_getChars_37 rfl (i := 0) rfl ?_
        refine z_isub hX dJ18_getChars_38 ?_
        refine z_topi (fun v70 e71 => ?_)
        have hw := hw v70 e71
        refine z_istore hX dJ18_getChars_39 (i := 4) (Nat.le_of_ble_eq_true rfl) rfl (ls2 := [some (.int p8), none, some (va_rf x3), some (.int (p8 / (100 : Int32))), some (.int v70), some (.int p9), some (.int p1)]) rfl ?_
        refine z_iload_n hX dJ18_getChars_41 rfl (i := 3) rfl ?_
        refine z_istore_n hX dJ18_getChars_42 rfl (i := 0) (Nat.le_of_ble_eq_true rfl) trivial (ls2 := [some (.int (p8 / (100 : Int32))), none, some (va_rf x3), some (.int (p8 / (100 : Int32))), some (.int v70), some (.int p9), some (.int p1)]) rfl ?_
        refine z_aload_n hX dJ18_getChars_43 rfl (i := 2) rfl ?_
        obtain ⟨v72, e73⟩ : ∃ y : Int32, y = p9 + (-1 : Int32) := ⟨_, rfl⟩
        refine z_iinc hX dJ18_getChars_44 (i := 5) (v := v72) rfl (by rw [e73]; rfl) (Nat.le_of_ble_eq_true rfl) rfl (ls2 := [some (.int (p8 / (100 : Int32))), none, some (va_rf x3), some (.int (p8 / (100 : Int32))), some (.int v70), some (.int v72), some (.int p1)]) rfl ?_
        have hw := hw v72 e73
        refine z_iload hX dJ18_getChars_47 (i := 5) rfl ?_
        refine z_gets hX dJ18_getChars_49 (List.mem_of_getElem? (i := 7) rfl) q1254 rfl ?_
        show zW _ _ _ _ (va_rf (some (X.g.2.2.2 57)) :: _)
        refine z_iload hX dJ18_getChars_52 (i := 4) rfl ?_
        obtain ⟨a74, n75, f76, r77, m78, i79, hw⟩ := hw
        refine z_bald hX dJ18_getChars_54 r77 m78 i79 ?_
        revert hw
        generalize f76 (Int32.toNatClampNeg v70) = v80
        intro hw
        obtain ⟨a82, n83, f84, r85, g86, m87, i88, hw⟩ := hw
        refine z_bast hX dJ18_getChars_55 r85 g86 m87 i88 (z_nm (fun s89 e90 => ?_))
        have hw := hw s89 e90
        refine z_aload_n hX dJ18_getChars_56 rfl (i := 2) rfl ?_
        obtain ⟨v91, e92⟩ : ∃ y : Int32, y = v72 + (-1 : Int32) := ⟨_, rfl⟩
        refine z_iinc hX dJ18_getChars_57 (i := 5) (v := v91) rfl (by rw [e92]; rfl) (Nat.le_of_ble_eq_true rfl) rfl (ls2 := [some (.int (p8 / (100 : Int32))), none, some (va_rf x3), some (.int (p8 / (100 : Int32))), some (.int v70), some (.int v91), some (.int p1)]) rfl ?_
        have hw := hw v91 e92
        refine z_iload hX dJ18_getChars_60 (i := 5) rfl ?_
        refine z_gets hX dJ18_getChars_62 (List.mem_of_getElem? (i := 6) rfl) q1256 rfl ?_
        show zW _ _ _ _ (va_rf (some (X.g.2.2.2 56)) :: _)
        refine z_iload hX dJ18_getChars_65 (i := 4) rfl ?_
        obtain ⟨a93, n94, f95, r96, m97, i98, hw⟩ := hw
        refine z_bald hX dJ18_getChars_67 r96 m97 i98 ?_
        revert hw
        generalize f95 (Int32.toNatClampNeg v70) = v99
        intro hw
        obtain ⟨a101, n102, f103, r104, g105, m106, i107, hw⟩ := hw
        refine z_bast hX dJ18_getChars_68 r104 g105 m106 i107 (z_nm (fun s108 e109 => ?_))
        have hw := hw s108 e109
        refine z_goto hX dJ18_getChars_69 (tgt := 22) rfl ?_
        refine z_sub (ls' := [some (.int (p8 / (100 : Int32))), none, some (va_rf x3), none, none, some (.int v91), some (.int p1)]) (zsS (zsN (zsS (zsN (zsN (zsS (zsS (zs0)))))))) ?_
        exact hrec11 _ _ _ hw
    · refine z_if_ne hX dJ18_getChars_16 (tgt := 22) rfl (fun c111 => ?_) (fun c111 => ?_)
      · have hw := hw.1 c111
        exact hj7 _ _ _ hw
      · have hw := hw.2 c111
        refine z_iload_n hX dJ18_getChars_19 rfl (i := 0) rfl ?_
        refine z_ineg hX dJ18_getChars_20 ?_
        refine z_istore_n hX dJ18_getChars_21 rfl (i := 0) (Nat.le_of_ble_eq_true rfl) trivial (ls2 := [some (.int (-x1)), none, some (va_rf x3), none, none, some (.int x2), some (.int p1)]) rfl ?_
        exact hj7 _ _ _ hw
  · refine z_if_ge hX dJ18_getChars_4 (tgt := 11) rfl (fun c112 => ?_) (fun c112 => ?_)
    · have hw := hw.1 c112
      refine z_iconst hX (v := (0 : Int32)) dJ18_getChars_11 (by decide) ?_
      refine z_sub (ls' := [some (.int x1), none, some (va_rf x3), none, none, some (.int x2), none]) (zsS (zsN (zsS (zsN (zsN (zsS (zsN (zs0)))))))) ?_
      exact hj3 _ _ hw
    · have hw := hw.2 c112
      refine z_iconst hX (v := (1 : Int32)) dJ18_getChars_7 (by decide) ?_
      refine z_goto hX dJ18_getChars_8 (tgt := 12) rfl ?_
      refine z_sub (ls' := [some (.int x1), none, some (va_rf x3), none, none, some (.int x2), none]) (zsS (zsN (zsS (zsN (zsN (zsS (zsN (zs0)))))))) ?_
      exact hj3 _ _ hw
abbrev cJ18_valueOf : ByteArray := prog_38_method_22_code
def yJ18_valueOf : MethodName := ⟨RJ18, "valueOf", "(I)Ljava/lang/Integer;"⟩
def dkwJ18_valueOf_1 : List UInt8 := [187, 0, 1, 89, 26, 183, 0, 199, 176]
abbrev dktJ18_valueOf_1 : List UInt8 := dkwJ18_valueOf_1 ++ []
def dkwJ18_valueOf_0 : List UInt8 := [26, 16, 128, 161, 0, 20, 26, 178, 0, 191, 163, 0, 13, 178, 0, 195, 26, 17, 0, 128, 96, 50, 176]
abbrev dktJ18_valueOf_0 : List UInt8 := dkwJ18_valueOf_0 ++ dktJ18_valueOf_1
theorem dksJ18_valueOf_0 : cJ18_valueOf.data.toList.drop 0 = dktJ18_valueOf_0 := by decide +kernel
theorem dksJ18_valueOf_1 : cJ18_valueOf.data.toList.drop 23 = dktJ18_valueOf_1 := dk_seg dksJ18_valueOf_0 23 rfl rfl
theorem dJ18_valueOf_0 : decode cJ18_valueOf 0 = .ok (.iload_n 0, 1) := dk_26 (dk_at dksJ18_valueOf_0 0 rfl rfl)
theorem dJ18_valueOf_1 : decode cJ18_valueOf 1 = .ok (.bipush (-128), 2) := dk_16 128 (dk_at dksJ18_valueOf_0 1 rfl rfl)
theorem dJ18_valueOf_3 : decode cJ18_valueOf 3 = .ok (.if_icmp .lt 20, 3) := dk_161 0 20 (dk_at dksJ18_valueOf_0 3 rfl rfl)
theorem dJ18_valueOf_6 : decode cJ18_valueOf 6 = .ok (.iload_n 0, 1) := dk_26 (dk_at dksJ18_valueOf_0 6 rfl rfl)
theorem dJ18_valueOf_7 : decode cJ18_valueOf 7 = .ok (.getstatic 191, 3) := dk_178 0 191 (dk_at dksJ18_valueOf_0 7 rfl rfl)
theorem dJ18_valueOf_10 : decode cJ18_valueOf 10 = .ok (.if_icmp .gt 13, 3) := dk_163 0 13 (dk_at dksJ18_valueOf_0 10 rfl rfl)
theorem dJ18_valueOf_13 : decode cJ18_valueOf 13 = .ok (.getstatic 195, 3) := dk_178 0 195 (dk_at dksJ18_valueOf_0 13 rfl rfl)
theorem dJ18_valueOf_16 : decode cJ18_valueOf 16 = .ok (.iload_n 0, 1) := dk_26 (dk_at dksJ18_valueOf_0 16 rfl rfl)
theorem dJ18_valueOf_17 : decode cJ18_valueOf 17 = .ok (.sipush 128, 3) := dk_17 0 128 (dk_at dksJ18_valueOf_0 17 rfl rfl)
theorem dJ18_valueOf_20 : decode cJ18_valueOf 20 = .ok (.iadd, 1) := dk_96 (dk_at dksJ18_valueOf_0 20 rfl rfl)
theorem dJ18_valueOf_21 : decode cJ18_valueOf 21 = .ok (.aaload, 1) := dk_50 (dk_at dksJ18_valueOf_0 21 rfl rfl)
theorem dJ18_valueOf_22 : decode cJ18_valueOf 22 = .ok (.areturn, 1) := dk_176 (dk_at dksJ18_valueOf_0 22 rfl rfl)
theorem dJ18_valueOf_23 : decode cJ18_valueOf 23 = .ok (.new 1, 3) := dk_187 0 1 (dk_at dksJ18_valueOf_1 0 rfl rfl)
theorem dJ18_valueOf_26 : decode cJ18_valueOf 26 = .ok (.dup, 1) := dk_89 (dk_at dksJ18_valueOf_1 3 rfl rfl)
theorem dJ18_valueOf_27 : decode cJ18_valueOf 27 = .ok (.iload_n 0, 1) := dk_26 (dk_at dksJ18_valueOf_1 4 rfl rfl)
theorem dJ18_valueOf_28 : decode cJ18_valueOf 28 = .ok (.invokespecial 199, 3) := dk_183 0 199 (dk_at dksJ18_valueOf_1 5 rfl rfl)
theorem dJ18_valueOf_31 : decode cJ18_valueOf 31 = .ok (.areturn, 1) := dk_176 (dk_at dksJ18_valueOf_1 8 rfl rfl)
/-- java/lang/Integer.valueOf(I)Ljava/lang/Integer; -/
def zb436 (G : zPg) (C : zO) (args : List Value) (Q : zQ) (Y : zY) (σ : zS) : Prop := ∃ (x1 : Int32), args = [.int x1] ∧ (zJ (fun  (s1 : zS) => znew s1 10 [.int 0] 1 (fun s3 => (∃ a9, (some s1.2.1) = some a9 ∧ zcl C 437 [.ref a9, .int x1] Y s3 (zqV (fun s7 => Q (some (va_rf (some s1.2.1))) s7))))) (fun (j2 : zS → Prop) => ((x1 < (-128 : Int32)) → j2 σ) ∧ ((¬ x1 < (-128 : Int32)) → (((127 : Int32) < x1) → j2 σ) ∧ ((¬ (127 : Int32) < x1) → zaR σ 9 (some (G.2 55)) (x1 + (128 : Int32)) (fun v19 => Q (some (va_rf v19)) σ)))))
set_option maxHeartbeats 4000000 in
theorem wk436 {l : Launch} {g : zG} {d : Nat} {C : zO} (hG : zGk g) (hC : zSound l g d C) {args : List Value} {Q : zQ} {Y : zY} {σ : zS} (hw : zb436 (zpg g) C args Q Y σ) : zMet l g (d + 1) (⟨"java/lang/Integer", "valueOf", "(I)Ljava/lang/Integer;"⟩, Cond.code ⟨"java/lang/Integer", "valueOf", "(I)Ljava/lang/Integer;"⟩ prog_38_method_22_code 1 (Option.some (FieldType.object "java/lang/Integer"))) args σ Q Y := by
  obtain ⟨x1, rfl, hw⟩ := hw
  refine zof hG (by decide +kernel) [false] ⟨rfl, trivial⟩ (Nat.le_of_ble_eq_true rfl) (ls := [some (.int x1)]) rfl ?_
  intro X hX hR hTb hd1 hd2 hl hg hnm
  subst hl
  subst hg
  have hd : zDep X d := ⟨hd1, hd2⟩
  refine z_iload_n hX dJ18_valueOf_0 rfl (i := 0) rfl ?_
  refine z_bipush hX (v := (-128 : Int32)) dJ18_valueOf_1 (by decide) ?_
  refine zJ_w (P := fun (j : zS → Prop) => ∀  (s1 : zS), j  s1 → zW X s1 23 [some (.int x1)] []) hw (fun  s1 hw => ?_) (fun j2 hj2 hw => ?_)
  · refine z_new hX zc10 dJ18_valueOf_23 q1612 q1613 q154 (fs := [.int 0]) (fun j hj => by have hj : j < 1 := hj; exact zdf10 j hj) hw.1 hw.2.1 (fun z4 => z_nm (fun s3 e5 => ?_))
    have hw := hw.2.2 z4 s3 e5
    refine z_dup hX dJ18_valueOf_26 (zc_rf _) ?_
    refine z_iload_n hX dJ18_valueOf_27 rfl (i := 0) rfl ?_
    obtain ⟨a9, r10, hw⟩ := hw
    refine z_invI hX hd r10 dJ18_valueOf_28 (hC 437 _ zm437 _ _ _ _ hw) q1614 q1615 rfl zh24 q1616 q154 zn437 rfl (Nat.le_of_ble_eq_true rfl) (st := [va_rf (some s1.2.1)]) rfl (zcs8 (Nat.le_of_ble_eq_true rfl)) rfl (zkV (fun s7 hw => ?_)) (zout hX hR hTb)
    exact z_areturn hX hR dJ18_valueOf_31 (Or.inl ⟨_, rfl⟩) hw
  · refine z_icmp_lt hX dJ18_valueOf_3 (tgt := 23) rfl (fun c11 => ?_) (fun c11 => ?_)
    · have hw := hw.1 c11
      exact hj2  _ hw
    · have hw := hw.2 c11
      refine z_iload_n hX dJ18_valueOf_6 rfl (i := 0) rfl ?_
      refine z_gets hX dJ18_valueOf_7 (List.mem_of_getElem? (i := 10) rfl) q1608 rfl ?_
      show zW _ _ _ _ (.int (127 : Int32) :: _)
      refine z_icmp_gt hX dJ18_valueOf_10 (tgt := 23) rfl (fun c12 => ?_) (fun c12 => ?_)
      · have hw := hw.1 c12
        exact hj2  _ hw
      · have hw := hw.2 c12
        refine z_gets hX dJ18_valueOf_13 (List.mem_of_getElem? (i := 5) rfl) q1610 rfl ?_
        show zW _ _ _ _ (va_rf (some (X.g.2.2.2 55)) :: _)
        refine z_iload_n hX dJ18_valueOf_16 rfl (i := 0) rfl ?_
        refine z_sipush hX (v := (128 : Int32)) dJ18_valueOf_17 (by decide) ?_
        refine z_iadd hX dJ18_valueOf_20 ?_
        obtain ⟨a13, n14, f15, r16, m17, i18, hw⟩ := hw
        refine z_aald hX 9 dJ18_valueOf_21 rfl r16 m17 i18 ?_
        revert hw
        generalize f15 (Int32.toNatClampNeg (x1 + (128 : Int32))) = v19
        intro hw
        exact z_areturn hX hR dJ18_valueOf_22 (Or.inl ⟨_, rfl⟩) hw
abbrev cJ18_init : ByteArray := prog_38_method_23_code
def yJ18_init : MethodName := ⟨RJ18, "<init>", "(I)V"⟩
def dkwJ18_init_0 : List UInt8 := [42, 183, 0, 202, 42, 27, 181, 0, 205, 177]
abbrev dktJ18_init_0 : List UInt8 := dkwJ18_init_0 ++ []
theorem dksJ18_init_0 : cJ18_init.data.toList.drop 0 = dktJ18_init_0 := by decide +kernel
theorem dJ18_init_0 : decode cJ18_init 0 = .ok (.aload_n 0, 1) := dk_42 (dk_at dksJ18_init_0 0 rfl rfl)
theorem dJ18_init_1 : decode cJ18_init 1 = .ok (.invokespecial 202, 3) := dk_183 0 202 (dk_at dksJ18_init_0 1 rfl rfl)
theorem dJ18_init_4 : decode cJ18_init 4 = .ok (.aload_n 0, 1) := dk_42 (dk_at dksJ18_init_0 4 rfl rfl)
theorem dJ18_init_5 : decode cJ18_init 5 = .ok (.iload_n 1, 1) := dk_27 (dk_at dksJ18_init_0 5 rfl rfl)
theorem dJ18_init_6 : decode cJ18_init 6 = .ok (.putfield 205, 3) := dk_181 0 205 (dk_at dksJ18_init_0 6 rfl rfl)
theorem dJ18_init_9 : decode cJ18_init 9 = .ok (.return_, 1) := dk_177 (dk_at dksJ18_init_0 9 rfl rfl)
/-- java/lang/Integer.<init>(I)V -/
def zb437 (G : zPg) (C : zO) (args : List Value) (Q : zQ) (Y : zY) (σ : zS) : Prop := ∃ (a0 : Nat) (x1 : Int32), args = [.ref a0, .int x1] ∧ ((∃ a4, (some a0) = some a4 ∧ zcl C 430 [.ref a4] Y σ (zqV (fun s2 => zput s2 G.1 (some a0) 10 0 (.int x1) (fun s6 => Q none s6)))))
set_option maxHeartbeats 4000000 in
theorem wk437 {l : Launch} {g : zG} {d : Nat} {C : zO} (hG : zGk g) (hC : zSound l g d C) {args : List Value} {Q : zQ} {Y : zY} {σ : zS} (hw : zb437 (zpg g) C args Q Y σ) : zMet l g (d + 1) (⟨"java/lang/Integer", "<init>", "(I)V"⟩, Cond.code ⟨"java/lang/Integer", "<init>", "(I)V"⟩ prog_38_method_23_code 2 (Option.none : Option FieldType)) args σ Q Y := by
  obtain ⟨a0, x1, rfl, hw⟩ := hw
  refine zof hG (by decide +kernel) [false, false] ⟨rfl, rfl, trivial⟩ (Nat.le_of_ble_eq_true rfl) (ls := [some (va_rf (some a0)), some (.int x1)]) rfl ?_
  intro X hX hR hTb hd1 hd2 hl hg hnm
  subst hl
  subst hg
  have hd : zDep X d := ⟨hd1, hd2⟩
  refine z_aload_n hX dJ18_init_0 rfl (i := 0) rfl ?_
  obtain ⟨a4, r5, hw⟩ := hw
  refine z_invI hX hd r5 dJ18_init_1 (hC 430 _ zm430 _ _ _ _ hw) q1617 q1618 rfl zh23 q1619 q153 zn430 rfl (Nat.le_of_ble_eq_true rfl) (st := []) rfl (zcs8 (Nat.le_of_ble_eq_true rfl)) rfl (zkV (fun s2 hw => ?_)) (zout hX hR hTb)
  refine z_aload_n hX dJ18_init_4 rfl (i := 0) rfl ?_
  refine z_iload_n hX dJ18_init_5 rfl (i := 1) rfl ?_
  obtain ⟨a8, f9, r10, g11, m12, l13, hw⟩ := hw
  refine z_putF hX zc10 (k := 0) dJ18_init_6 (Nat.le_of_ble_eq_true rfl) q1621 rfl hnm rfl rfl rfl r10 g11 m12 l13 (z_nm (fun s6 e7 => ?_))
  have hw := hw s6 e7
  exact z_return hX hR dJ18_init_9 hw
abbrev cJ18_compare : ByteArray := prog_38_method_40_code
def yJ18_compare : MethodName := ⟨RJ18, "compare", "(II)I"⟩
def dkwJ18_compare_0 : List UInt8 := [26, 27, 162, 0, 7, 2, 167, 0, 13, 26, 27, 160, 0, 7, 3, 167, 0, 4, 4, 172]
abbrev dktJ18_compare_0 : List UInt8 := dkwJ18_compare_0 ++ []
theorem dksJ18_compare_0 : cJ18_compare.data.toList.drop 0 = dktJ18_compare_0 := by decide +kernel
theorem dJ18_compare_0 : decode cJ18_compare 0 = .ok (.iload_n 0, 1) := dk_26 (dk_at dksJ18_compare_0 0 rfl rfl)
theorem dJ18_compare_1 : decode cJ18_compare 1 = .ok (.iload_n 1, 1) := dk_27 (dk_at dksJ18_compare_0 1 rfl rfl)
theorem dJ18_compare_2 : decode cJ18_compare 2 = .ok (.if_icmp .ge 7, 3) := dk_162 0 7 (dk_at dksJ18_compare_0 2 rfl rfl)
theorem dJ18_compare_5 : decode cJ18_compare 5 = .ok (.iconst (-1), 1) := dk_2 (dk_at dksJ18_compare_0 5 rfl rfl)
theorem dJ18_compare_6 : decode cJ18_compare 6 = .ok (.goto 13, 3) := dk_167 0 13 (dk_at dksJ18_compare_0 6 rfl rfl)
theorem dJ18_compare_9 : decode cJ18_compare 9 = .ok (.iload_n 0, 1) := dk_26 (dk_at dksJ18_compare_0 9 rfl rfl)
theorem dJ18_compare_10 : decode cJ18_compare 10 = .ok (.iload_n 1, 1) := dk_27 (dk_at dksJ18_compare_0 10 rfl rfl)
theorem dJ18_compare_11 : decode cJ18_compare 11 = .ok (.if_icmp .ne 7, 3) := dk_160 0 7 (dk_at dksJ18_compare_0 11 rfl rfl)
theorem dJ18_compare_14 : decode cJ18_compare 14 = .ok (.iconst 0, 1) := dk_3 (dk_at dksJ18_compare_0 14 rfl rfl)
theorem dJ18_compare_15 : decode cJ18_compare 15 = .ok (.goto 4, 3) := dk_167 0 4 (dk_at dksJ18_compare_0 15 rfl rfl)
theorem dJ18_compare_18 : decode cJ18_compare 18 = .ok (.iconst 1, 1) := dk_4 (dk_at dksJ18_compare_0 18 rfl rfl)
theorem dJ18_compare_19 : decode cJ18_compare 19 = .ok (.ireturn, 1) := dk_172 (dk_at dksJ18_compare_0 19 rfl rfl)
/-- java/lang/Integer.compare(II)I -/
def zb438 (G : zPg) (C : zO) (args : List Value) (Q : zQ) (Y : zY) (σ : zS) : Prop := ∃ (x1 : Int32) (x2 : Int32), args = [.int x1, .int x2] ∧ (zJ (fun (p1 : Int32) (s2 : zS) => Q (some (.int p1)) s2) (fun (j3 : Int32 → zS → Prop) => ((x2 ≤ x1) → ((¬ x1 = x2) → j3 (1 : Int32) σ) ∧ ((x1 = x2) → j3 (0 : Int32) σ)) ∧ ((¬ x2 ≤ x1) → j3 (-1 : Int32) σ)))
set_option maxHeartbeats 4000000 in
theorem wk438 {l : Launch} {g : zG} {d : Nat} {C : zO} (hG : zGk g) (hC : zSound l g d C) {args : List Value} {Q : zQ} {Y : zY} {σ : zS} (hw : zb438 (zpg g) C args Q Y σ) : zMet l g (d + 1) (⟨"java/lang/Integer", "compare", "(II)I"⟩, Cond.code ⟨"java/lang/Integer", "compare", "(II)I"⟩ prog_38_method_40_code 2 (Option.some FieldType.int)) args σ Q Y := by
  obtain ⟨x1, x2, rfl, hw⟩ := hw
  refine zof hG (by decide +kernel) [false, false] ⟨rfl, rfl, trivial⟩ (Nat.le_of_ble_eq_true rfl) (ls := [some (.int x1), some (.int x2)]) rfl ?_
  intro X hX hR hTb hd1 hd2 hl hg hnm
  subst hl
  subst hg
  have hd : zDep X d := ⟨hd1, hd2⟩
  refine z_iload_n hX dJ18_compare_0 rfl (i := 0) rfl ?_
  refine z_iload_n hX dJ18_compare_1 rfl (i := 1) rfl ?_
  refine zJ_w (P := fun (j : Int32 → zS → Prop) => ∀ (p1 : Int32) (s2 : zS), j p1 s2 → zW X s2 19 [none, none] [.int p1]) hw (fun p1 s2 hw => ?_) (fun j3 hj3 hw => ?_)
  · exact z_ireturn hX hR dJ18_compare_19 rfl hw
  · refine z_icmp_ge hX dJ18_compare_2 (tgt := 9) rfl (fun c4 => ?_) (fun c4 => ?_)
    · have hw := hw.1 c4
      refine z_iload_n hX dJ18_compare_9 rfl (i := 0) rfl ?_
      refine z_iload_n hX dJ18_compare_10 rfl (i := 1) rfl ?_
      refine z_icmp_ne hX dJ18_compare_11 (tgt := 18) rfl (fun c5 => ?_) (fun c5 => ?_)
      · have hw := hw.1 c5
        refine z_iconst hX (v := (1 : Int32)) dJ18_compare_18 (by decide) ?_
        refine z_sub (ls' := [none, none]) (zsN (zsN (zs0))) ?_
        exact hj3 _ _ hw
      · have hw := hw.2 c5
        refine z_iconst hX (v := (0 : Int32)) dJ18_compare_14 (by decide) ?_
        refine z_goto hX dJ18_compare_15 (tgt := 19) rfl ?_
        refine z_sub (ls' := [none, none]) (zsN (zsN (zs0))) ?_
        exact hj3 _ _ hw
    · have hw := hw.2 c4
      refine z_iconst hX (v := (-1 : Int32)) dJ18_compare_5 (by decide) ?_
      refine z_goto hX dJ18_compare_6 (tgt := 19) rfl ?_
      refine z_sub (ls' := [none, none]) (zsN (zsN (zs0))) ?_
      exact hj3 _ _ hw
abbrev cJ18_compareTo : ByteArray := prog_38_method_63_code
def yJ18_compareTo : MethodName := ⟨RJ18, "compareTo", "(Ljava/lang/Object;)I"⟩
def dkwJ18_compareTo_0 : List UInt8 := [42, 43, 192, 0, 1, 182, 1, 28, 172]
abbrev dktJ18_compareTo_0 : List UInt8 := dkwJ18_compareTo_0 ++ []
theorem dksJ18_compareTo_0 : cJ18_compareTo.data.toList.drop 0 = dktJ18_compareTo_0 := by decide +kernel
theorem dJ18_compareTo_0 : decode cJ18_compareTo 0 = .ok (.aload_n 0, 1) := dk_42 (dk_at dksJ18_compareTo_0 0 rfl rfl)
theorem dJ18_compareTo_1 : decode cJ18_compareTo 1 = .ok (.aload_n 1, 1) := dk_43 (dk_at dksJ18_compareTo_0 1 rfl rfl)
theorem dJ18_compareTo_2 : decode cJ18_compareTo 2 = .ok (.checkcast 1, 3) := dk_192 0 1 (dk_at dksJ18_compareTo_0 2 rfl rfl)
theorem dJ18_compareTo_5 : decode cJ18_compareTo 5 = .ok (.invokevirtual 284, 3) := dk_182 1 28 (dk_at dksJ18_compareTo_0 5 rfl rfl)
theorem dJ18_compareTo_8 : decode cJ18_compareTo 8 = .ok (.ireturn, 1) := dk_172 (dk_at dksJ18_compareTo_0 8 rfl rfl)
/-- java/lang/Integer.compareTo(Ljava/lang/Object;)I -/
def zb439 (G : zPg) (C : zO) (args : List Value) (Q : zQ) (Y : zY) (σ : zS) : Prop := ∃ (a0 : Nat) (x1 : Option Nat), args = [.ref a0, va_rf x1] ∧ ((zcst σ x1 [10] ∧ zrc σ (some a0) 10 (fun a4 => zcl C 440 [.ref a4, va_rf x1] Y σ (zqI (fun v1 s2 => Q (some (.int v1)) s2)))))
set_option maxHeartbeats 4000000 in
theorem wk439 {l : Launch} {g : zG} {d : Nat} {C : zO} (hG : zGk g) (hC : zSound l g d C) {args : List Value} {Q : zQ} {Y : zY} {σ : zS} (hw : zb439 (zpg g) C args Q Y σ) : zMet l g (d + 1) (⟨"java/lang/Integer", "compareTo", "(Ljava/lang/Object;)I"⟩, Cond.code ⟨"java/lang/Integer", "compareTo", "(Ljava/lang/Object;)I"⟩ prog_38_method_63_code 2 (Option.some FieldType.int)) args σ Q Y := by
  obtain ⟨a0, x1, rfl, hw⟩ := hw
  refine zof hG (by decide +kernel) [false, false] ⟨rfl, (zc_rf _), trivial⟩ (Nat.le_of_ble_eq_true rfl) (ls := [some (va_rf (some a0)), some (va_rf x1)]) rfl ?_
  intro X hX hR hTb hd1 hd2 hl hg hnm
  subst hl
  subst hg
  have hd : zDep X d := ⟨hd1, hd2⟩
  refine z_aload_n hX dJ18_compareTo_0 rfl (i := 0) rfl ?_
  refine z_aload_n hX dJ18_compareTo_1 rfl (i := 1) rfl ?_
  refine z_cast hX dJ18_compareTo_2 q1612 (zfa1 ⟨_, rfl, Or.inl rfl⟩ (zfa0)) hw.1 ?_
  have hw := hw.2
  obtain ⟨a4, f5, r6, m7, hw⟩ := hw
  refine z_invV hX hd r6 (ci := 10) rfl rfl m7 dJ18_compareTo_5 (hC 440 _ zm440 _ _ _ _ hw) q1822 q1823 q1824 zh24 q1825 q154 zn440 rfl (Nat.le_of_ble_eq_true rfl) (st := []) rfl (zcs8 (Nat.le_of_ble_eq_true rfl)) rfl (zkI (fun v1 s2 hw => ?_)) (zout hX hR hTb)
  exact z_ireturn hX hR dJ18_compareTo_8 rfl hw
abbrev cJ18_compareTo_2 : ByteArray := prog_38_method_39_code
def yJ18_compareTo_2 : MethodName := ⟨RJ18, "compareTo", "(Ljava/lang/Integer;)I"⟩
def dkwJ18_compareTo_2_0 : List UInt8 := [42, 180, 0, 205, 43, 180, 0, 205, 184, 1, 3, 172]
abbrev dktJ18_compareTo_2_0 : List UInt8 := dkwJ18_compareTo_2_0 ++ []
theorem dksJ18_compareTo_2_0 : cJ18_compareTo_2.data.toList.drop 0 = dktJ18_compareTo_2_0 := by decide +kernel
theorem dJ18_compareTo_2_0 : decode cJ18_compareTo_2 0 = .ok (.aload_n 0, 1) := dk_42 (dk_at dksJ18_compareTo_2_0 0 rfl rfl)
theorem dJ18_compareTo_2_1 : decode cJ18_compareTo_2 1 = .ok (.getfield 205, 3) := dk_180 0 205 (dk_at dksJ18_compareTo_2_0 1 rfl rfl)
theorem dJ18_compareTo_2_4 : decode cJ18_compareTo_2 4 = .ok (.aload_n 1, 1) := dk_43 (dk_at dksJ18_compareTo_2_0 4 rfl rfl)
theorem dJ18_compareTo_2_5 : decode cJ18_compareTo_2 5 = .ok (.getfield 205, 3) := dk_180 0 205 (dk_at dksJ18_compareTo_2_0 5 rfl rfl)
theorem dJ18_compareTo_2_8 : decode cJ18_compareTo_2 8 = .ok (.invokestatic 259, 3) := dk_184 1 3 (dk_at dksJ18_compareTo_2_0 8 rfl rfl)
theorem dJ18_compareTo_2_11 : decode cJ18_compareTo_2 11 = .ok (.ireturn, 1) := dk_172 (dk_at dksJ18_compareTo_2_0 11 rfl rfl)
/-- java/lang/Integer.compareTo(Ljava/lang/Integer;)I -/
def zb440 (G : zPg) (C : zO) (args : List Value) (Q : zQ) (Y : zY) (σ : zS) : Prop := ∃ (a0 : Nat) (x1 : Option Nat), args = [.ref a0, va_rf x1] ∧ (zgI σ (some a0) 10 0 (fun v1 => zgI σ x1 10 0 (fun v7 => zcl C 438 [.int v1, .int v7] Y σ (zqI (fun v13 s14 => Q (some (.int v13)) s14)))))
set_option maxHeartbeats 4000000 in
theorem wk440 {l : Launch} {g : zG} {d : Nat} {C : zO} (hG : zGk g) (hC : zSound l g d C) {args : List Value} {Q : zQ} {Y : zY} {σ : zS} (hw : zb440 (zpg g) C args Q Y σ) : zMet l g (d + 1) (⟨"java/lang/Integer", "compareTo", "(Ljava/lang/Integer;)I"⟩, Cond.code ⟨"java/lang/Integer", "compareTo", "(Ljava/lang/Integer;)I"⟩ prog_38_method_39_code 2 (Option.some FieldType.int)) args σ Q Y := by
  obtain ⟨a0, x1, rfl, hw⟩ := hw
  refine zof hG (by decide +kernel) [false, false] ⟨rfl, (zc_rf _), trivial⟩ (Nat.le_of_ble_eq_true rfl) (ls := [some (va_rf (some a0)), some (va_rf x1)]) rfl ?_
  intro X hX hR hTb hd1 hd2 hl hg hnm
  subst hl
  subst hg
  have hd : zDep X d := ⟨hd1, hd2⟩
  refine z_aload_n hX dJ18_compareTo_2_0 rfl (i := 0) rfl ?_
  obtain ⟨a2, f3, v1, r4, m5, e6, hw⟩ := hw
  refine z_get hX zc10 (k := 0) dJ18_compareTo_2_1 (Nat.le_of_ble_eq_true rfl) (zlk hX q1621) r4 m5 e6 ?_
  refine z_aload_n hX dJ18_compareTo_2_4 rfl (i := 1) rfl ?_
  obtain ⟨a8, f9, v7, r10, m11, e12, hw⟩ := hw
  refine z_get hX zc10 (k := 0) dJ18_compareTo_2_5 (Nat.le_of_ble_eq_true rfl) (zlk hX q1621) r10 m11 e12 ?_
  refine z_invS hX hd dJ18_compareTo_2_8 (hC 438 _ zm438 _ _ _ _ hw) q1826 q1788 zh24 q1789 q154 zn438 rfl (Nat.le_of_ble_eq_true rfl) (st := []) rfl (zcs8 (Nat.le_of_ble_eq_true rfl)) rfl (zkI (fun v13 s14 hw => ?_)) (zout hX hR hTb)
  exact z_ireturn hX hR dJ18_compareTo_2_11 rfl hw
abbrev cJ18_numberOfLeadingZeros : ByteArray := prog_38_method_47_code
def yJ18_numberOfLeadingZeros : MethodName := ⟨RJ18, "numberOfLeadingZeros", "(I)I"⟩
def dkwJ18_numberOfLeadingZeros_3 : List UInt8 := [5, 124, 59, 27, 26, 4, 124, 100, 172]
abbrev dktJ18_numberOfLeadingZeros_3 : List UInt8 := dkwJ18_numberOfLeadingZeros_3 ++ []
def dkwJ18_numberOfLeadingZeros_2 : List UInt8 := [124, 59, 26, 16, 16, 161, 0, 10, 132, 1, 252, 26, 7, 124, 59, 26, 7, 161, 0, 10, 132, 1, 254, 26]
abbrev dktJ18_numberOfLeadingZeros_2 : List UInt8 := dkwJ18_numberOfLeadingZeros_2 ++ dktJ18_numberOfLeadingZeros_3
def dkwJ18_numberOfLeadingZeros_1 : List UInt8 := [161, 0, 11, 132, 1, 240, 26, 16, 16, 124, 59, 26, 17, 1, 0, 161, 0, 11, 132, 1, 248, 26, 16, 8]
abbrev dktJ18_numberOfLeadingZeros_1 : List UInt8 := dkwJ18_numberOfLeadingZeros_1 ++ dktJ18_numberOfLeadingZeros_2
def dkwJ18_numberOfLeadingZeros_0 : List UInt8 := [26, 157, 0, 14, 26, 154, 0, 8, 16, 32, 167, 0, 4, 3, 172, 16, 31, 60, 26, 19, 1, 8]
abbrev dktJ18_numberOfLeadingZeros_0 : List UInt8 := dkwJ18_numberOfLeadingZeros_0 ++ dktJ18_numberOfLeadingZeros_1
theorem dksJ18_numberOfLeadingZeros_0 : cJ18_numberOfLeadingZeros.data.toList.drop 0 = dktJ18_numberOfLeadingZeros_0 := by decide +kernel
theorem dksJ18_numberOfLeadingZeros_1 : cJ18_numberOfLeadingZeros.data.toList.drop 22 = dktJ18_numberOfLeadingZeros_1 := dk_seg dksJ18_numberOfLeadingZeros_0 22 rfl rfl
theorem dksJ18_numberOfLeadingZeros_2 : cJ18_numberOfLeadingZeros.data.toList.drop 46 = dktJ18_numberOfLeadingZeros_2 := dk_seg dksJ18_numberOfLeadingZeros_1 24 rfl rfl
theorem dksJ18_numberOfLeadingZeros_3 : cJ18_numberOfLeadingZeros.data.toList.drop 70 = dktJ18_numberOfLeadingZeros_3 := dk_seg dksJ18_numberOfLeadingZeros_2 24 rfl rfl
theorem dJ18_numberOfLeadingZeros_0 : decode cJ18_numberOfLeadingZeros 0 = .ok (.iload_n 0, 1) := dk_26 (dk_at dksJ18_numberOfLeadingZeros_0 0 rfl rfl)
theorem dJ18_numberOfLeadingZeros_1 : decode cJ18_numberOfLeadingZeros 1 = .ok (.ifCond .gt 14, 3) := dk_157 0 14 (dk_at dksJ18_numberOfLeadingZeros_0 1 rfl rfl)
theorem dJ18_numberOfLeadingZeros_4 : decode cJ18_numberOfLeadingZeros 4 = .ok (.iload_n 0, 1) := dk_26 (dk_at dksJ18_numberOfLeadingZeros_0 4 rfl rfl)
theorem dJ18_numberOfLeadingZeros_5 : decode cJ18_numberOfLeadingZeros 5 = .ok (.ifCond .ne 8, 3) := dk_154 0 8 (dk_at dksJ18_numberOfLeadingZeros_0 5 rfl rfl)
theorem dJ18_numberOfLeadingZeros_8 : decode cJ18_numberOfLeadingZeros 8 = .ok (.bipush 32, 2) := dk_16 32 (dk_at dksJ18_numberOfLeadingZeros_0 8 rfl rfl)
theorem dJ18_numberOfLeadingZeros_10 : decode cJ18_numberOfLeadingZeros 10 = .ok (.goto 4, 3) := dk_167 0 4 (dk_at dksJ18_numberOfLeadingZeros_0 10 rfl rfl)
theorem dJ18_numberOfLeadingZeros_13 : decode cJ18_numberOfLeadingZeros 13 = .ok (.iconst 0, 1) := dk_3 (dk_at dksJ18_numberOfLeadingZeros_0 13 rfl rfl)
theorem dJ18_numberOfLeadingZeros_14 : decode cJ18_numberOfLeadingZeros 14 = .ok (.ireturn, 1) := dk_172 (dk_at dksJ18_numberOfLeadingZeros_0 14 rfl rfl)
theorem dJ18_numberOfLeadingZeros_15 : decode cJ18_numberOfLeadingZeros 15 = .ok (.bipush 31, 2) := dk_16 31 (dk_at dksJ18_numberOfLeadingZeros_0 15 rfl rfl)
theorem dJ18_numberOfLeadingZeros_17 : decode cJ18_numberOfLeadingZeros 17 = .ok (.istore_n 1, 1) := dk_60 (dk_at dksJ18_numberOfLeadingZeros_0 17 rfl rfl)
theorem dJ18_numberOfLeadingZeros_18 : decode cJ18_numberOfLeadingZeros 18 = .ok (.iload_n 0, 1) := dk_26 (dk_at dksJ18_numberOfLeadingZeros_0 18 rfl rfl)
theorem dJ18_numberOfLeadingZeros_19 : decode cJ18_numberOfLeadingZeros 19 = .ok (.ldc_w 264, 3) := dk_19 1 8 (dk_at dksJ18_numberOfLeadingZeros_0 19 rfl rfl)
theorem dJ18_numberOfLeadingZeros_22 : decode cJ18_numberOfLeadingZeros 22 = .ok (.if_icmp .lt 11, 3) := dk_161 0 11 (dk_at dksJ18_numberOfLeadingZeros_1 0 rfl rfl)
theorem dJ18_numberOfLeadingZeros_25 : decode cJ18_numberOfLeadingZeros 25 = .ok (.iinc 1 (-16), 3) := dk_132 1 240 (dk_at dksJ18_numberOfLeadingZeros_1 3 rfl rfl)
theorem dJ18_numberOfLeadingZeros_28 : decode cJ18_numberOfLeadingZeros 28 = .ok (.iload_n 0, 1) := dk_26 (dk_at dksJ18_numberOfLeadingZeros_1 6 rfl rfl)
theorem dJ18_numberOfLeadingZeros_29 : decode cJ18_numberOfLeadingZeros 29 = .ok (.bipush 16, 2) := dk_16 16 (dk_at dksJ18_numberOfLeadingZeros_1 7 rfl rfl)
theorem dJ18_numberOfLeadingZeros_31 : decode cJ18_numberOfLeadingZeros 31 = .ok (.iushr, 1) := dk_124 (dk_at dksJ18_numberOfLeadingZeros_1 9 rfl rfl)
theorem dJ18_numberOfLeadingZeros_32 : decode cJ18_numberOfLeadingZeros 32 = .ok (.istore_n 0, 1) := dk_59 (dk_at dksJ18_numberOfLeadingZeros_1 10 rfl rfl)
theorem dJ18_numberOfLeadingZeros_33 : decode cJ18_numberOfLeadingZeros 33 = .ok (.iload_n 0, 1) := dk_26 (dk_at dksJ18_numberOfLeadingZeros_1 11 rfl rfl)
theorem dJ18_numberOfLeadingZeros_34 : decode cJ18_numberOfLeadingZeros 34 = .ok (.sipush 256, 3) := dk_17 1 0 (dk_at dksJ18_numberOfLeadingZeros_1 12 rfl rfl)
theorem dJ18_numberOfLeadingZeros_37 : decode cJ18_numberOfLeadingZeros 37 = .ok (.if_icmp .lt 11, 3) := dk_161 0 11 (dk_at dksJ18_numberOfLeadingZeros_1 15 rfl rfl)
theorem dJ18_numberOfLeadingZeros_40 : decode cJ18_numberOfLeadingZeros 40 = .ok (.iinc 1 (-8), 3) := dk_132 1 248 (dk_at dksJ18_numberOfLeadingZeros_1 18 rfl rfl)
theorem dJ18_numberOfLeadingZeros_43 : decode cJ18_numberOfLeadingZeros 43 = .ok (.iload_n 0, 1) := dk_26 (dk_at dksJ18_numberOfLeadingZeros_1 21 rfl rfl)
theorem dJ18_numberOfLeadingZeros_44 : decode cJ18_numberOfLeadingZeros 44 = .ok (.bipush 8, 2) := dk_16 8 (dk_at dksJ18_numberOfLeadingZeros_1 22 rfl rfl)
theorem dJ18_numberOfLeadingZeros_46 : decode cJ18_numberOfLeadingZeros 46 = .ok (.iushr, 1) := dk_124 (dk_at dksJ18_numberOfLeadingZeros_2 0 rfl rfl)
theorem dJ18_numberOfLeadingZeros_47 : decode cJ18_numberOfLeadingZeros 47 = .ok (.istore_n 0, 1) := dk_59 (dk_at dksJ18_numberOfLeadingZeros_2 1 rfl rfl)
theorem dJ18_numberOfLeadingZeros_48 : decode cJ18_numberOfLeadingZeros 48 = .ok (.iload_n 0, 1) := dk_26 (dk_at dksJ18_numberOfLeadingZeros_2 2 rfl rfl)
theorem dJ18_numberOfLeadingZeros_49 : decode cJ18_numberOfLeadingZeros 49 = .ok (.bipush 16, 2) := dk_16 16 (dk_at dksJ18_numberOfLeadingZeros_2 3 rfl rfl)
theorem dJ18_numberOfLeadingZeros_51 : decode cJ18_numberOfLeadingZeros 51 = .ok (.if_icmp .lt 10, 3) := dk_161 0 10 (dk_at dksJ18_numberOfLeadingZeros_2 5 rfl rfl)
theorem dJ18_numberOfLeadingZeros_54 : decode cJ18_numberOfLeadingZeros 54 = .ok (.iinc 1 (-4), 3) := dk_132 1 252 (dk_at dksJ18_numberOfLeadingZeros_2 8 rfl rfl)
theorem dJ18_numberOfLeadingZeros_57 : decode cJ18_numberOfLeadingZeros 57 = .ok (.iload_n 0, 1) := dk_26 (dk_at dksJ18_numberOfLeadingZeros_2 11 rfl rfl)
theorem dJ18_numberOfLeadingZeros_58 : decode cJ18_numberOfLeadingZeros 58 = .ok (.iconst 4, 1) := dk_7 (dk_at dksJ18_numberOfLeadingZeros_2 12 rfl rfl)
theorem dJ18_numberOfLeadingZeros_59 : decode cJ18_numberOfLeadingZeros 59 = .ok (.iushr, 1) := dk_124 (dk_at dksJ18_numberOfLeadingZeros_2 13 rfl rfl)
theorem dJ18_numberOfLeadingZeros_60 : decode cJ18_numberOfLeadingZeros 60 = .ok (.istore_n 0, 1) := dk_59 (dk_at dksJ18_numberOfLeadingZeros_2 14 rfl rfl)
theorem dJ18_numberOfLeadingZeros_61 : decode cJ18_numberOfLeadingZeros 61 = .ok (.iload_n 0, 1) := dk_26 (dk_at dksJ18_numberOfLeadingZeros_2 15 rfl rfl)
theorem dJ18_numberOfLeadingZeros_62 : decode cJ18_numberOfLeadingZeros 62 = .ok (.iconst 4, 1) := dk_7 (dk_at dksJ18_numberOfLeadingZeros_2 16 rfl rfl)
theorem dJ18_numberOfLeadingZeros_63 : decode cJ18_numberOfLeadingZeros 63 = .ok (.if_icmp .lt 10, 3) := dk_161 0 10 (dk_at dksJ18_numberOfLeadingZeros_2 17 rfl rfl)
theorem dJ18_numberOfLeadingZeros_66 : decode cJ18_numberOfLeadingZeros 66 = .ok (.iinc 1 (-2), 3) := dk_132 1 254 (dk_at dksJ18_numberOfLeadingZeros_2 20 rfl rfl)
theorem dJ18_numberOfLeadingZeros_69 : decode cJ18_numberOfLeadingZeros 69 = .ok (.iload_n 0, 1) := dk_26 (dk_at dksJ18_numberOfLeadingZeros_2 23 rfl rfl)
theorem dJ18_numberOfLeadingZeros_70 : decode cJ18_numberOfLeadingZeros 70 = .ok (.iconst 2, 1) := dk_5 (dk_at dksJ18_numberOfLeadingZeros_3 0 rfl rfl)
theorem dJ18_numberOfLeadingZeros_71 : decode cJ18_numberOfLeadingZeros 71 = .ok (.iushr, 1) := dk_124 (dk_at dksJ18_numberOfLeadingZeros_3 1 rfl rfl)
theorem dJ18_numberOfLeadingZeros_72 : decode cJ18_numberOfLeadingZeros 72 = .ok (.istore_n 0, 1) := dk_59 (dk_at dksJ18_numberOfLeadingZeros_3 2 rfl rfl)
theorem dJ18_numberOfLeadingZeros_73 : decode cJ18_numberOfLeadingZeros 73 = .ok (.iload_n 1, 1) := dk_27 (dk_at dksJ18_numberOfLeadingZeros_3 3 rfl rfl)
theorem dJ18_numberOfLeadingZeros_74 : decode cJ18_numberOfLeadingZeros 74 = .ok (.iload_n 0, 1) := dk_26 (dk_at dksJ18_numberOfLeadingZeros_3 4 rfl rfl)
theorem dJ18_numberOfLeadingZeros_75 : decode cJ18_numberOfLeadingZeros 75 = .ok (.iconst 1, 1) := dk_4 (dk_at dksJ18_numberOfLeadingZeros_3 5 rfl rfl)
theorem dJ18_numberOfLeadingZeros_76 : decode cJ18_numberOfLeadingZeros 76 = .ok (.iushr, 1) := dk_124 (dk_at dksJ18_numberOfLeadingZeros_3 6 rfl rfl)
theorem dJ18_numberOfLeadingZeros_77 : decode cJ18_numberOfLeadingZeros 77 = .ok (.isub, 1) := dk_100 (dk_at dksJ18_numberOfLeadingZeros_3 7 rfl rfl)
theorem dJ18_numberOfLeadingZeros_78 : decode cJ18_numberOfLeadingZeros 78 = .ok (.ireturn, 1) := dk_172 (dk_at dksJ18_numberOfLeadingZeros_3 8 rfl rfl)
/-- java/lang/Integer.numberOfLeadingZeros(I)I -/
def zb441 (G : zPg) (C : zO) (args : List Value) (Q : zQ) (Y : zY) (σ : zS) : Prop := ∃ (x1 : Int32), args = [.int x1] ∧ (((0 < x1) → zJ (fun (p2 : Int32) (p3 : Int32) (s4 : zS) => zJ (fun (p6 : Int32) (p7 : Int32) (s8 : zS) => zJ (fun (p10 : Int32) (p11 : Int32) (s12 : zS) => zJ (fun (p14 : Int32) (p15 : Int32) (s16 : zS) => (∀ v18 : Int32, v18 = ((p14.toUInt32 >>> ((1 : Int32).toUInt32 &&& Int32.toUInt32 31)).toInt32) → Q (some (.int (p15 - v18))) s16)) (fun (j17 : Int32 → Int32 → zS → Prop) => ((p10 < (4 : Int32)) → j17 p10 p11 s12) ∧ ((¬ p10 < (4 : Int32)) → (∀ v21 : Int32, v21 = p11 + (-2 : Int32) → (∀ v23 : Int32, v23 = ((p10.toUInt32 >>> ((2 : Int32).toUInt32 &&& Int32.toUInt32 31)).toInt32) → j17 v23 v21 s12))))) (fun (j13 : Int32 → Int32 → zS → Prop) => ((p6 < (16 : Int32)) → j13 p6 p7 s8) ∧ ((¬ p6 < (16 : Int32)) → (∀ v26 : Int32, v26 = p7 + (-4 : Int32) → (∀ v28 : Int32, v28 = ((p6.toUInt32 >>> ((4 : Int32).toUInt32 &&& Int32.toUInt32 31)).toInt32) → j13 v28 v26 s8))))) (fun (j9 : Int32 → Int32 → zS → Prop) => ((p2 < (256 : Int32)) → j9 p2 p3 s4) ∧ ((¬ p2 < (256 : Int32)) → (∀ v31 : Int32, v31 = p3 + (-8 : Int32) → (∀ v33 : Int32, v33 = ((p2.toUInt32 >>> ((8 : Int32).toUInt32 &&& Int32.toUInt32 31)).toInt32) → j9 v33 v31 s4))))) (fun (j5 : Int32 → Int32 → zS → Prop) => ((x1 < (65536 : Int32)) → j5 x1 (31 : Int32) σ) ∧ ((¬ x1 < (65536 : Int32)) → (∀ v36 : Int32, v36 = (31 : Int32) + (-16 : Int32) → (∀ v38 : Int32, v38 = ((x1.toUInt32 >>> ((16 : Int32).toUInt32 &&& Int32.toUInt32 31)).toInt32) → j5 v38 v36 σ))))) ∧ ((¬ 0 < x1) → zJ (fun (p40 : Int32) (s41 : zS) => Q (some (.int p40)) s41) (fun (j42 : Int32 → zS → Prop) => ((¬ x1 = 0) → j42 (0 : Int32) σ) ∧ ((x1 = 0) → j42 (32 : Int32) σ))))
set_option maxHeartbeats 4000000 in
theorem wk441 {l : Launch} {g : zG} {d : Nat} {C : zO} (hG : zGk g) (hC : zSound l g d C) {args : List Value} {Q : zQ} {Y : zY} {σ : zS} (hw : zb441 (zpg g) C args Q Y σ) : zMet l g (d + 1) (⟨"java/lang/Integer", "numberOfLeadingZeros", "(I)I"⟩, Cond.code ⟨"java/lang/Integer", "numberOfLeadingZeros", "(I)I"⟩ prog_38_method_47_code 2 (Option.some FieldType.int)) args σ Q Y := by
  obtain ⟨x1, rfl, hw⟩ := hw
  refine zof hG (by decide +kernel) [false] ⟨rfl, trivial⟩ (Nat.le_of_ble_eq_true rfl) (ls := [some (.int x1), none]) rfl ?_
  intro X hX hR hTb hd1 hd2 hl hg hnm
  subst hl
  subst hg
  have hd : zDep X d := ⟨hd1, hd2⟩
  refine z_iload_n hX dJ18_numberOfLeadingZeros_0 rfl (i := 0) rfl ?_
  refine z_if_gt hX dJ18_numberOfLeadingZeros_1 (tgt := 15) rfl (fun c1 => ?_) (fun c1 => ?_)
  · have hw := hw.1 c1
    refine z_bipush hX (v := (31 : Int32)) dJ18_numberOfLeadingZeros_15 (by decide) ?_
    refine z_istore_n hX dJ18_numberOfLeadingZeros_17 rfl (i := 1) (Nat.le_of_ble_eq_true rfl) rfl (ls2 := [some (.int x1), some (.int (31 : Int32))]) rfl ?_
    refine z_iload_n hX dJ18_numberOfLeadingZeros_18 rfl (i := 0) rfl ?_
    refine z_ldcw hX dJ18_numberOfLeadingZeros_19 q370 ?_
    refine zJ_w (P := fun (j : Int32 → Int32 → zS → Prop) => ∀ (p2 : Int32) (p3 : Int32) (s4 : zS), j p2 p3 s4 → zW X s4 33 [some (.int p2), some (.int p3)] []) hw (fun p2 p3 s4 hw => ?_) (fun j5 hj5 hw => ?_)
    · refine z_iload_n hX dJ18_numberOfLeadingZeros_33 rfl (i := 0) rfl ?_
      refine z_sipush hX (v := (256 : Int32)) dJ18_numberOfLeadingZeros_34 (by decide) ?_
      refine zJ_w (P := fun (j : Int32 → Int32 → zS → Prop) => ∀ (p6 : Int32) (p7 : Int32) (s8 : zS), j p6 p7 s8 → zW X s8 48 [some (.int p6), some (.int p7)] []) hw (fun p6 p7 s8 hw => ?_) (fun j9 hj9 hw => ?_)
      · refine z_iload_n hX dJ18_numberOfLeadingZeros_48 rfl (i := 0) rfl ?_
        refine z_bipush hX (v := (16 : Int32)) dJ18_numberOfLeadingZeros_49 (by decide) ?_
        refine zJ_w (P := fun (j : Int32 → Int32 → zS → Prop) => ∀ (p10 : Int32) (p11 : Int32) (s12 : zS), j p10 p11 s12 → zW X s12 61 [some (.int p10), some (.int p11)] []) hw (fun p10 p11 s12 hw => ?_) (fun j13 hj13 hw => ?_)
        · refine z_iload_n hX dJ18_numberOfLeadingZeros_61 rfl (i := 0) rfl ?_
          refine z_iconst hX (v := (4 : Int32)) dJ18_numberOfLeadingZeros_62 (by decide) ?_
          refine zJ_w (P := fun (j : Int32 → Int32 → zS → Prop) => ∀ (p14 : Int32) (p15 : Int32) (s16 : zS), j p14 p15 s16 → zW X s16 73 [some (.int p14), some (.int p15)] []) hw (fun p14 p15 s16 hw => ?_) (fun j17 hj17 hw => ?_)
          · refine z_iload_n hX dJ18_numberOfLeadingZeros_73 rfl (i := 1) rfl ?_
            refine z_iload_n hX dJ18_numberOfLeadingZeros_74 rfl (i := 0) rfl ?_
            refine z_iconst hX (v := (1 : Int32)) dJ18_numberOfLeadingZeros_75 (by decide) ?_
            refine z_iushr hX dJ18_numberOfLeadingZeros_76 ?_
            refine z_topi (fun v18 e19 => ?_)
            have hw := hw v18 e19
            refine z_isub hX dJ18_numberOfLeadingZeros_77 ?_
            exact z_ireturn hX hR dJ18_numberOfLeadingZeros_78 rfl hw
          · refine z_icmp_lt hX dJ18_numberOfLeadingZeros_63 (tgt := 73) rfl (fun c20 => ?_) (fun c20 => ?_)
            · have hw := hw.1 c20
              exact hj17 _ _ _ hw
            · have hw := hw.2 c20
              obtain ⟨v21, e22⟩ : ∃ y : Int32, y = p11 + (-2 : Int32) := ⟨_, rfl⟩
              refine z_iinc hX dJ18_numberOfLeadingZeros_66 (i := 1) (v := v21) rfl (by rw [e22]; rfl) (Nat.le_of_ble_eq_true rfl) rfl (ls2 := [some (.int p10), some (.int v21)]) rfl ?_
              have hw := hw v21 e22
              refine z_iload_n hX dJ18_numberOfLeadingZeros_69 rfl (i := 0) rfl ?_
              refine z_iconst hX (v := (2 : Int32)) dJ18_numberOfLeadingZeros_70 (by decide) ?_
              refine z_iushr hX dJ18_numberOfLeadingZeros_71 ?_
              refine z_topi (fun v23 e24 => ?_)
              have hw := hw v23 e24
              refine z_istore_n hX dJ18_numberOfLeadingZeros_72 rfl (i := 0) (Nat.le_of_ble_eq_true rfl) trivial (ls2 := [some (.int v23), some (.int v21)]) rfl ?_
              exact hj17 _ _ _ hw
        · refine z_icmp_lt hX dJ18_numberOfLeadingZeros_51 (tgt := 61) rfl (fun c25 => ?_) (fun c25 => ?_)
          · have hw := hw.1 c25
            exact hj13 _ _ _ hw
          · have hw := hw.2 c25
            obtain ⟨v26, e27⟩ : ∃ y : Int32, y = p7 + (-4 : Int32) := ⟨_, rfl⟩
            refine z_iinc hX dJ18_numberOfLeadingZeros_54 (i := 1) (v := v26) rfl (by rw [e27]; rfl) (Nat.le_of_ble_eq_true rfl) rfl (ls2 := [some (.int p6), some (.int v26)]) rfl ?_
            have hw := hw v26 e27
            refine z_iload_n hX dJ18_numberOfLeadingZeros_57 rfl (i := 0) rfl ?_
            refine z_iconst hX (v := (4 : Int32)) dJ18_numberOfLeadingZeros_58 (by decide) ?_
            refine z_iushr hX dJ18_numberOfLeadingZeros_59 ?_
            refine z_topi (fun v28 e29 => ?_)
            have hw := hw v28 e29
            refine z_istore_n hX dJ18_numberOfLeadingZeros_60 rfl (i := 0) (Nat.le_of_ble_eq_true rfl) trivial (ls2 := [some (.int v28), some (.int v26)]) rfl ?_
            exact hj13 _ _ _ hw
      · refine z_icmp_lt hX dJ18_numberOfLeadingZeros_37 (tgt := 48) rfl (fun c30 => ?_) (fun c30 => ?_)
        · have hw := hw.1 c30
          exact hj9 _ _ _ hw
        · have hw := hw.2 c30
          obtain ⟨v31, e32⟩ : ∃ y : Int32, y = p3 + (-8 : Int32) := ⟨_, rfl⟩
          refine z_iinc hX dJ18_numberOfLeadingZeros_40 (i := 1) (v := v31) rfl (by rw [e32]; rfl) (Nat.le_of_ble_eq_true rfl) rfl (ls2 := [some (.int p2), some (.int v31)]) rfl ?_
          have hw := hw v31 e32
          refine z_iload_n hX dJ18_numberOfLeadingZeros_43 rfl (i := 0) rfl ?_
          refine z_bipush hX (v := (8 : Int32)) dJ18_numberOfLeadingZeros_44 (by decide) ?_
          refine z_iushr hX dJ18_numberOfLeadingZeros_46 ?_
          refine z_topi (fun v33 e34 => ?_)
          have hw := hw v33 e34
          refine z_istore_n hX dJ18_numberOfLeadingZeros_47 rfl (i := 0) (Nat.le_of_ble_eq_true rfl) trivial (ls2 := [some (.int v33), some (.int v31)]) rfl ?_
          exact hj9 _ _ _ hw
    · refine z_icmp_lt hX dJ18_numberOfLeadingZeros_22 (tgt := 33) rfl (fun c35 => ?_) (fun c35 => ?_)
      · have hw := hw.1 c35
        exact hj5 _ _ _ hw
      · have hw := hw.2 c35
        obtain ⟨v36, e37⟩ : ∃ y : Int32, y = (31 : Int32) + (-16 : Int32) := ⟨_, rfl⟩
        refine z_iinc hX dJ18_numberOfLeadingZeros_25 (i := 1) (v := v36) rfl (by rw [e37]; rfl) (Nat.le_of_ble_eq_true rfl) rfl (ls2 := [some (.int x1), some (.int v36)]) rfl ?_
        have hw := hw v36 e37
        refine z_iload_n hX dJ18_numberOfLeadingZeros_28 rfl (i := 0) rfl ?_
        refine z_bipush hX (v := (16 : Int32)) dJ18_numberOfLeadingZeros_29 (by decide) ?_
        refine z_iushr hX dJ18_numberOfLeadingZeros_31 ?_
        refine z_topi (fun v38 e39 => ?_)
        have hw := hw v38 e39
        refine z_istore_n hX dJ18_numberOfLeadingZeros_32 rfl (i := 0) (Nat.le_of_ble_eq_true rfl) trivial (ls2 := [some (.int v38), some (.int v36)]) rfl ?_
        exact hj5 _ _ _ hw
  · have hw := hw.2 c1
    refine z_iload_n hX dJ18_numberOfLeadingZeros_4 rfl (i := 0) rfl ?_
    refine zJ_w (P := fun (j : Int32 → zS → Prop) => ∀ (p40 : Int32) (s41 : zS), j p40 s41 → zW X s41 14 [none, none] [.int p40]) hw (fun p40 s41 hw => ?_) (fun j42 hj42 hw => ?_)
    · exact z_ireturn hX hR dJ18_numberOfLeadingZeros_14 rfl hw
    · refine z_if_ne hX dJ18_numberOfLeadingZeros_5 (tgt := 13) rfl (fun c43 => ?_) (fun c43 => ?_)
      · have hw := hw.1 c43
        refine z_iconst hX (v := (0 : Int32)) dJ18_numberOfLeadingZeros_13 (by decide) ?_
        refine z_sub (ls' := [none, none]) (zsN (zsN (zs0))) ?_
        exact hj42 _ _ hw
      · have hw := hw.2 c43
        refine z_bipush hX (v := (32 : Int32)) dJ18_numberOfLeadingZeros_8 (by decide) ?_
        refine z_goto hX dJ18_numberOfLeadingZeros_10 (tgt := 14) rfl ?_
        refine z_sub (ls' := [none, none]) (zsN (zsN (zs0))) ?_
        exact hj42 _ _ hw
def RJ20 : String := "java/util/Objects"
abbrev cJ20_checkIndex : ByteArray := prog_65_method_17_code
def yJ20_checkIndex : MethodName := ⟨RJ20, "checkIndex", "(II)I"⟩
def dkwJ20_checkIndex_0 : List UInt8 := [26, 27, 1, 184, 0, 105, 172]
abbrev dktJ20_checkIndex_0 : List UInt8 := dkwJ20_checkIndex_0 ++ []
theorem dksJ20_checkIndex_0 : cJ20_checkIndex.data.toList.drop 0 = dktJ20_checkIndex_0 := by decide +kernel
theorem dJ20_checkIndex_0 : decode cJ20_checkIndex 0 = .ok (.iload_n 0, 1) := dk_26 (dk_at dksJ20_checkIndex_0 0 rfl rfl)
theorem dJ20_checkIndex_1 : decode cJ20_checkIndex 1 = .ok (.iload_n 1, 1) := dk_27 (dk_at dksJ20_checkIndex_0 1 rfl rfl)
theorem dJ20_checkIndex_2 : decode cJ20_checkIndex 2 = .ok (.aconst_null, 1) := dk_1 (dk_at dksJ20_checkIndex_0 2 rfl rfl)
theorem dJ20_checkIndex_3 : decode cJ20_checkIndex 3 = .ok (.invokestatic 105, 3) := dk_184 0 105 (dk_at dksJ20_checkIndex_0 3 rfl rfl)
theorem dJ20_checkIndex_6 : decode cJ20_checkIndex 6 = .ok (.ireturn, 1) := dk_172 (dk_at dksJ20_checkIndex_0 6 rfl rfl)
/-- java/util/Objects.checkIndex(II)I -/
def zb454 (G : zPg) (C : zO) (args : List Value) (Q : zQ) (Y : zY) (σ : zS) : Prop := ∃ (x1 : Int32) (x2 : Int32), args = [.int x1, .int x2] ∧ (zcl C 427 [.int x1, .int x2, va_rf none] Y σ (zqI (fun v1 s2 => Q (some (.int v1)) s2)))
set_option maxHeartbeats 4000000 in
theorem wk454 {l : Launch} {g : zG} {d : Nat} {C : zO} (hG : zGk g) (hC : zSound l g d C) {args : List Value} {Q : zQ} {Y : zY} {σ : zS} (hw : zb454 (zpg g) C args Q Y σ) : zMet l g (d + 1) (⟨"java/util/Objects", "checkIndex", "(II)I"⟩, Cond.code ⟨"java/util/Objects", "checkIndex", "(II)I"⟩ prog_65_method_17_code 2 (Option.some FieldType.int)) args σ Q Y := by
  obtain ⟨x1, x2, rfl, hw⟩ := hw
  refine zof hG (by decide +kernel) [false, false] ⟨rfl, rfl, trivial⟩ (Nat.le_of_ble_eq_true rfl) (ls := [some (.int x1), some (.int x2)]) rfl ?_
  intro X hX hR hTb hd1 hd2 hl hg hnm
  subst hl
  subst hg
  have hd : zDep X d := ⟨hd1, hd2⟩
  refine z_iload_n hX dJ20_checkIndex_0 rfl (i := 0) rfl ?_
  refine z_iload_n hX dJ20_checkIndex_1 rfl (i := 1) rfl ?_
  refine z_null hX dJ20_checkIndex_2 ?_
  refine z_invS hX hd dJ20_checkIndex_3 (hC 427 _ zm427 _ _ _ _ hw) q378 q379 zh22 q380 q152 zn427 rfl (Nat.le_of_ble_eq_true rfl) (st := []) rfl (zcs8 (Nat.le_of_ble_eq_true rfl)) rfl (zkI (fun v1 s2 hw => ?_)) (zout hX hR hTb)
  exact z_ireturn hX hR dJ20_checkIndex_6 rfl hw
abbrev cJ21_init : ByteArray := prog_64_method_1_code
def yJ21_init : MethodName := ⟨RJ21, "<init>", "()V"⟩
theorem dJ21_init_0 : decode cJ21_init 0 = .ok (.aload_n 0, 1) := by decide +kernel
theorem dJ21_init_1 : decode cJ21_init 1 = .ok (.invokespecial 1, 3) := by decide +kernel
theorem dJ21_init_4 : decode cJ21_init 4 = .ok (.return_, 1) := by decide +kernel
/-- java/util/NoSuchElementException.<init>()V -/
def zb457 (G : zPg) (C : zO) (args : List Value) (Q : zQ) (Y : zY) (σ : zS) : Prop := ∃ (a0 : Nat), args = [.ref a0] ∧ ((∃ a4, (some a0) = some a4 ∧ zcl C 306 [.ref a4] Y σ (zqV (fun s2 => Q none s2))))
set_option maxHeartbeats 4000000 in
theorem wk457 {l : Launch} {g : zG} {d : Nat} {C : zO} (hG : zGk g) (hC : zSound l g d C) {args : List Value} {Q : zQ} {Y : zY} {σ : zS} (hw : zb457 (zpg g) C args Q Y σ) : zMet l g (d + 1) (⟨"java/util/NoSuchElementException", "<init>", "()V"⟩, Cond.code ⟨"java/util/NoSuchElementException", "<init>", "()V"⟩ prog_64_method_1_code 1 (Option.none : Option FieldType)) args σ Q Y := by
  obtain ⟨a0, rfl, hw⟩ := hw
  refine zof hG (by decide +kernel) [false] ⟨rfl, trivial⟩ (Nat.le_of_ble_eq_true rfl) (ls := [some (va_rf (some a0))]) rfl ?_
  intro X hX hR hTb hd1 hd2 hl hg hnm
  subst hl
  subst hg
  have hd : zDep X d := ⟨hd1, hd2⟩
  refine z_aload_n hX dJ21_init_0 rfl (i := 0) rfl ?_
  obtain ⟨a4, r5, hw⟩ := hw
  refine z_invI hX hd r5 dJ21_init_1 (hC 306 _ zm306 _ _ _ _ hw) q909 q910 rfl zh11 q911 q140 zn306 rfl (Nat.le_of_ble_eq_true rfl) (st := []) rfl (zcs8 (Nat.le_of_ble_eq_true rfl)) rfl (zkV (fun s2 hw => ?_)) (zout hX hR hTb)
  exact z_return hX hR dJ21_init_4 hw
def RJ22 : String := "java/util/AbstractQueue"
abbrev cJ22_init : ByteArray := prog_56_method_1_code
def yJ22_init : MethodName := ⟨RJ22, "<init>", "()V"⟩
theorem dJ22_init_0 : decode cJ22_init 0 = .ok (.aload_n 0, 1) := by decide +kernel
theorem dJ22_init_1 : decode cJ22_init 1 = .ok (.invokespecial 1, 3) := by decide +kernel
theorem dJ22_init_4 : decode cJ22_init 4 = .ok (.return_, 1) := by decide +kernel
/-- java/util/AbstractQueue.<init>()V -/
def zb461 (G : zPg) (C : zO) (args : List Value) (Q : zQ) (Y : zY) (σ : zS) : Prop := ∃ (a0 : Nat), args = [.ref a0] ∧ ((∃ a4, (some a0) = some a4 ∧ zcl C 125 [.ref a4] Y σ (zqV (fun s2 => Q none s2))))
set_option maxHeartbeats 4000000 in
theorem wk461 {l : Launch} {g : zG} {d : Nat} {C : zO} (hG : zGk g) (hC : zSound l g d C) {args : List Value} {Q : zQ} {Y : zY} {σ : zS} (hw : zb461 (zpg g) C args Q Y σ) : zMet l g (d + 1) (⟨"java/util/AbstractQueue", "<init>", "()V"⟩, Cond.code ⟨"java/util/AbstractQueue", "<init>", "()V"⟩ prog_56_method_1_code 1 (Option.none : Option FieldType)) args σ Q Y := by
  obtain ⟨a0, rfl, hw⟩ := hw
  refine zof hG (by decide +kernel) [false] ⟨rfl, trivial⟩ (Nat.le_of_ble_eq_true rfl) (ls := [some (va_rf (some a0))]) rfl ?_
  intro X hX hR hTb hd1 hd2 hl hg hnm
  subst hl
  subst hg
  have hd : zDep X d := ⟨hd1, hd2⟩
  refine z_aload_n hX dJ22_init_0 rfl (i := 0) rfl ?_
  obtain ⟨a4, r5, hw⟩ := hw
  refine z_invI hX hd r5 dJ22_init_1 (hC 125 _ zm125 _ _ _ _ hw) q1717 q208 rfl zh3 q209 q132 zn125 rfl (Nat.le_of_ble_eq_true rfl) (st := []) rfl (zcs8 (Nat.le_of_ble_eq_true rfl)) rfl (zkV (fun s2 hw => ?_)) (zout hX hR hTb)
  exact z_return hX hR dJ22_init_4 hw
abbrev cJ23_init : ByteArray := prog_66_method_3_code
def yJ23_init : MethodName := ⟨RJ23, "<init>", "(Ljava/util/Comparator;)V"⟩
def dkwJ23_init_0 : List UInt8 := [42, 16, 11, 43, 183, 0, 3, 177]
abbrev dktJ23_init_0 : List UInt8 := dkwJ23_init_0 ++ []
theorem dksJ23_init_0 : cJ23_init.data.toList.drop 0 = dktJ23_init_0 := by decide +kernel
theorem dJ23_init_0 : decode cJ23_init 0 = .ok (.aload_n 0, 1) := dk_42 (dk_at dksJ23_init_0 0 rfl rfl)
theorem dJ23_init_1 : decode cJ23_init 1 = .ok (.bipush 11, 2) := dk_16 11 (dk_at dksJ23_init_0 1 rfl rfl)
theorem dJ23_init_3 : decode cJ23_init 3 = .ok (.aload_n 1, 1) := dk_43 (dk_at dksJ23_init_0 3 rfl rfl)
theorem dJ23_init_4 : decode cJ23_init 4 = .ok (.invokespecial 3, 3) := dk_183 0 3 (dk_at dksJ23_init_0 4 rfl rfl)
theorem dJ23_init_7 : decode cJ23_init 7 = .ok (.return_, 1) := dk_177 (dk_at dksJ23_init_0 7 rfl rfl)
/-- java/util/PriorityQueue.<init>(Ljava/util/Comparator;)V -/
def zb462 (G : zPg) (C : zO) (args : List Value) (Q : zQ) (Y : zY) (σ : zS) : Prop := ∃ (a0 : Nat) (x1 : Option Nat), args = [.ref a0, va_rf x1] ∧ ((∃ a4, (some a0) = some a4 ∧ zcl C 463 [.ref a4, .int (11 : Int32), va_rf x1] Y σ (zqV (fun s2 => Q none s2))))
set_option maxHeartbeats 4000000 in
theorem wk462 {l : Launch} {g : zG} {d : Nat} {C : zO} (hG : zGk g) (hC : zSound l g d C) {args : List Value} {Q : zQ} {Y : zY} {σ : zS} (hw : zb462 (zpg g) C args Q Y σ) : zMet l g (d + 1) (⟨"java/util/PriorityQueue", "<init>", "(Ljava/util/Comparator;)V"⟩, Cond.code ⟨"java/util/PriorityQueue", "<init>", "(Ljava/util/Comparator;)V"⟩ prog_66_method_3_code 2 (Option.none : Option FieldType)) args σ Q Y := by
  obtain ⟨a0, x1, rfl, hw⟩ := hw
  refine zof hG (by decide +kernel) [false, false] ⟨rfl, (zc_rf _), trivial⟩ (Nat.le_of_ble_eq_true rfl) (ls := [some (va_rf (some a0)), some (va_rf x1)]) rfl ?_
  intro X hX hR hTb hd1 hd2 hl hg hnm
  subst hl
  subst hg
  have hd : zDep X d := ⟨hd1, hd2⟩
  refine z_aload_n hX dJ23_init_0 rfl (i := 0) rfl ?_
  refine z_bipush hX (v := (11 : Int32)) dJ23_init_1 (by decide) ?_
  refine z_aload_n hX dJ23_init_3 rfl (i := 1) rfl ?_
  obtain ⟨a4, r5, hw⟩ := hw
  refine z_invI hX hd r5 dJ23_init_4 (hC 463 _ zm463 _ _ _ _ hw) q1711 q1712 rfl zh37 q1713 q169 zn463 rfl (Nat.le_of_ble_eq_true rfl) (st := []) rfl (zcs8 (Nat.le_of_ble_eq_true rfl)) rfl (zkV (fun s2 hw => ?_)) (zout hX hR hTb)
  exact z_return hX hR dJ23_init_7 hw
abbrev cJ23_init_2 : ByteArray := prog_66_method_4_code
def yJ23_init_2 : MethodName := ⟨RJ23, "<init>", "(ILjava/util/Comparator;)V"⟩
def dkwJ23_init_2_1 : List UInt8 := [181, 0, 17, 42, 44, 181, 0, 21, 177]
abbrev dktJ23_init_2_1 : List UInt8 := dkwJ23_init_2_1 ++ []
def dkwJ23_init_2_0 : List UInt8 := [42, 183, 0, 7, 27, 4, 162, 0, 11, 187, 0, 12, 89, 183, 0, 14, 191, 42, 27, 189, 0, 15]
abbrev dktJ23_init_2_0 : List UInt8 := dkwJ23_init_2_0 ++ dktJ23_init_2_1
theorem dksJ23_init_2_0 : cJ23_init_2.data.toList.drop 0 = dktJ23_init_2_0 := by decide +kernel
theorem dksJ23_init_2_1 : cJ23_init_2.data.toList.drop 22 = dktJ23_init_2_1 := dk_seg dksJ23_init_2_0 22 rfl rfl
theorem dJ23_init_2_0 : decode cJ23_init_2 0 = .ok (.aload_n 0, 1) := dk_42 (dk_at dksJ23_init_2_0 0 rfl rfl)
theorem dJ23_init_2_1 : decode cJ23_init_2 1 = .ok (.invokespecial 7, 3) := dk_183 0 7 (dk_at dksJ23_init_2_0 1 rfl rfl)
theorem dJ23_init_2_4 : decode cJ23_init_2 4 = .ok (.iload_n 1, 1) := dk_27 (dk_at dksJ23_init_2_0 4 rfl rfl)
theorem dJ23_init_2_5 : decode cJ23_init_2 5 = .ok (.iconst 1, 1) := dk_4 (dk_at dksJ23_init_2_0 5 rfl rfl)
theorem dJ23_init_2_6 : decode cJ23_init_2 6 = .ok (.if_icmp .ge 11, 3) := dk_162 0 11 (dk_at dksJ23_init_2_0 6 rfl rfl)
theorem dJ23_init_2_9 : decode cJ23_init_2 9 = .ok (.new 12, 3) := dk_187 0 12 (dk_at dksJ23_init_2_0 9 rfl rfl)
theorem dJ23_init_2_12 : decode cJ23_init_2 12 = .ok (.dup, 1) := dk_89 (dk_at dksJ23_init_2_0 12 rfl rfl)
theorem dJ23_init_2_13 : decode cJ23_init_2 13 = .ok (.invokespecial 14, 3) := dk_183 0 14 (dk_at dksJ23_init_2_0 13 rfl rfl)
theorem dJ23_init_2_16 : decode cJ23_init_2 16 = .ok (.athrow, 1) := dk_191 (dk_at dksJ23_init_2_0 16 rfl rfl)
theorem dJ23_init_2_17 : decode cJ23_init_2 17 = .ok (.aload_n 0, 1) := dk_42 (dk_at dksJ23_init_2_0 17 rfl rfl)
theorem dJ23_init_2_18 : decode cJ23_init_2 18 = .ok (.iload_n 1, 1) := dk_27 (dk_at dksJ23_init_2_0 18 rfl rfl)
theorem dJ23_init_2_19 : decode cJ23_init_2 19 = .ok (.anewarray 15, 3) := dk_189 0 15 (dk_at dksJ23_init_2_0 19 rfl rfl)
theorem dJ23_init_2_22 : decode cJ23_init_2 22 = .ok (.putfield 17, 3) := dk_181 0 17 (dk_at dksJ23_init_2_1 0 rfl rfl)
theorem dJ23_init_2_25 : decode cJ23_init_2 25 = .ok (.aload_n 0, 1) := dk_42 (dk_at dksJ23_init_2_1 3 rfl rfl)
theorem dJ23_init_2_26 : decode cJ23_init_2 26 = .ok (.aload_n 2, 1) := dk_44 (dk_at dksJ23_init_2_1 4 rfl rfl)
theorem dJ23_init_2_27 : decode cJ23_init_2 27 = .ok (.putfield 21, 3) := dk_181 0 21 (dk_at dksJ23_init_2_1 5 rfl rfl)
theorem dJ23_init_2_30 : decode cJ23_init_2 30 = .ok (.return_, 1) := dk_177 (dk_at dksJ23_init_2_1 8 rfl rfl)
/-- java/util/PriorityQueue.<init>(ILjava/util/Comparator;)V -/
def zb463 (G : zPg) (C : zO) (args : List Value) (Q : zQ) (Y : zY) (σ : zS) : Prop := ∃ (a0 : Nat) (x1 : Int32) (x2 : Option Nat), args = [.ref a0, .int x1, va_rf x2] ∧ ((∃ a4, (some a0) = some a4 ∧ zcl C 461 [.ref a4] Y σ (zqV (fun s2 => (((1 : Int32) ≤ x1) → znewA s2 4 x1 (.inr (.inr (.inr (.inr (fun _ => none))))) (fun s7 => zput s7 G.1 (some a0) 18 0 (va_rf (some s2.2.1)) (fun s10 => zput s10 G.1 (some a0) 18 2 (va_rf x2) (fun s18 => Q none s18)))) ∧ ((¬ (1 : Int32) ≤ x1) → znew s2 6 [] 6 (fun s26 => (∃ a32, (some s2.2.1) = some a32 ∧ zcl C 308 [.ref a32] Y s26 (zqV (fun s30 => ∃ q34, (some s2.2.1) = some q34 ∧ Y q34 s30)))))))))
set_option maxHeartbeats 4000000 in
theorem wk463 {l : Launch} {g : zG} {d : Nat} {C : zO} (hG : zGk g) (hC : zSound l g d C) {args : List Value} {Q : zQ} {Y : zY} {σ : zS} (hw : zb463 (zpg g) C args Q Y σ) : zMet l g (d + 1) (⟨"java/util/PriorityQueue", "<init>", "(ILjava/util/Comparator;)V"⟩, Cond.code ⟨"java/util/PriorityQueue", "<init>", "(ILjava/util/Comparator;)V"⟩ prog_66_method_4_code 3 (Option.none : Option FieldType)) args σ Q Y := by
  obtain ⟨a0, x1, x2, rfl, hw⟩ := hw
  refine zof hG (by decide +kernel) [false, false, false] ⟨rfl, rfl, (zc_rf _), trivial⟩ (Nat.le_of_ble_eq_true rfl) (ls := [some (va_rf (some a0)), some (.int x1), some (va_rf x2)]) rfl ?_
  intro X hX hR hTb hd1 hd2 hl hg hnm
  subst hl
  subst hg
  have hd : zDep X d := ⟨hd1, hd2⟩
  refine z_aload_n hX dJ23_init_2_0 rfl (i := 0) rfl ?_
  obtain ⟨a4, r5, hw⟩ := hw
  refine z_invI hX hd r5 dJ23_init_2_1 (hC 461 _ zm461 _ _ _ _ hw) q1714 q1715 rfl zh36 q1716 q168 zn461 rfl (Nat.le_of_ble_eq_true rfl) (st := []) rfl (zcs8 (Nat.le_of_ble_eq_true rfl)) rfl (zkV (fun s2 hw => ?_)) (zout hX hR hTb)
  refine z_iload_n hX dJ23_init_2_4 rfl (i := 1) rfl ?_
  refine z_iconst hX (v := (1 : Int32)) dJ23_init_2_5 (by decide) ?_
  refine z_icmp_ge hX dJ23_init_2_6 (tgt := 17) rfl (fun c6 => ?_) (fun c6 => ?_)
  · have hw := hw.1 c6
    refine z_aload_n hX dJ23_init_2_17 rfl (i := 0) rfl ?_
    refine z_iload_n hX dJ23_init_2_18 rfl (i := 1) rfl ?_
    refine z_anew hX 4 dJ23_init_2_19 q1720 q295 rfl rfl hw.1 hw.2.1 hw.2.2.1 hw.2.2.2.1 (fun z8 => z_nm (fun s7 e9 => ?_))
    have hw := hw.2.2.2.2 z8 s7 e9
    obtain ⟨a12, f13, r14, g15, m16, l17, hw⟩ := hw
    refine z_put hX zc18 (k := 0) dJ23_init_2_22 (Nat.le_of_ble_eq_true rfl) (zlk hX q1721) rfl (zn_a _ _) (zf_a _ _) r14 g15 m16 l17 (z_nm (fun s10 e11 => ?_))
    have hw := hw s10 e11
    refine z_aload_n hX dJ23_init_2_25 rfl (i := 0) rfl ?_
    refine z_aload_n hX dJ23_init_2_26 rfl (i := 2) rfl ?_
    obtain ⟨a20, f21, r22, g23, m24, l25, hw⟩ := hw
    refine z_putF hX zc18 (k := 2) dJ23_init_2_27 (Nat.le_of_ble_eq_true rfl) q1723 rfl hnm rfl (zn_o _ _) (zf_o _ _) r22 g23 m24 l25 (z_nm (fun s18 e19 => ?_))
    have hw := hw s18 e19
    exact z_return hX hR dJ23_init_2_30 hw
  · have hw := hw.2 c6
    refine z_new hX zc6 dJ23_init_2_9 q1718 q1071 q141 (fs := []) (fun j hj => absurd hj (Nat.not_lt_zero _)) hw.1 hw.2.1 (fun z27 => z_nm (fun s26 e28 => ?_))
    have hw := hw.2.2 z27 s26 e28
    refine z_dup hX dJ23_init_2_12 (zc_rf _) ?_
    obtain ⟨a32, r33, hw⟩ := hw
    refine z_invI hX hd r33 dJ23_init_2_13 (hC 308 _ zm308 _ _ _ _ hw) q1719 q1080 rfl zh12 q1081 q141 zn308 rfl (Nat.le_of_ble_eq_true rfl) (st := [va_rf (some s2.2.1)]) rfl (zcs8 (Nat.le_of_ble_eq_true rfl)) rfl (zkV (fun s30 hw => ?_)) (zout hX hR hTb)
    obtain ⟨q34, r35, hw⟩ := hw
    exact z_athrow hX dJ23_init_2_16 r35 ((zout hX hR hTb) _ _ hw)
abbrev cJ23_add : ByteArray := prog_66_method_13_code
def yJ23_add : MethodName := ⟨RJ23, "add", "(Ljava/lang/Object;)Z"⟩
def dkwJ23_add_0 : List UInt8 := [42, 43, 182, 0, 89, 172]
abbrev dktJ23_add_0 : List UInt8 := dkwJ23_add_0 ++ []
theorem dksJ23_add_0 : cJ23_add.data.toList.drop 0 = dktJ23_add_0 := by decide +kernel
theorem dJ23_add_0 : decode cJ23_add 0 = .ok (.aload_n 0, 1) := dk_42 (dk_at dksJ23_add_0 0 rfl rfl)
theorem dJ23_add_1 : decode cJ23_add 1 = .ok (.aload_n 1, 1) := dk_43 (dk_at dksJ23_add_0 1 rfl rfl)
theorem dJ23_add_2 : decode cJ23_add 2 = .ok (.invokevirtual 89, 3) := dk_182 0 89 (dk_at dksJ23_add_0 2 rfl rfl)
theorem dJ23_add_5 : decode cJ23_add 5 = .ok (.ireturn, 1) := dk_172 (dk_at dksJ23_add_0 5 rfl rfl)
/-- java/util/PriorityQueue.add(Ljava/lang/Object;)Z -/
def zb464 (G : zPg) (C : zO) (args : List Value) (Q : zQ) (Y : zY) (σ : zS) : Prop := ∃ (a0 : Nat) (x1 : Option Nat), args = [.ref a0, va_rf x1] ∧ (zrc σ (some a0) 18 (fun a4 => zcl C 465 [.ref a4, va_rf x1] Y σ (zqI (fun v1 s2 => zbool v1 ∧ Q (some (.int v1)) s2))))
set_option maxHeartbeats 4000000 in
theorem wk464 {l : Launch} {g : zG} {d : Nat} {C : zO} (hG : zGk g) (hC : zSound l g d C) {args : List Value} {Q : zQ} {Y : zY} {σ : zS} (hw : zb464 (zpg g) C args Q Y σ) : zMet l g (d + 1) (⟨"java/util/PriorityQueue", "add", "(Ljava/lang/Object;)Z"⟩, Cond.code ⟨"java/util/PriorityQueue", "add", "(Ljava/lang/Object;)Z"⟩ prog_66_method_13_code 2 (Option.some FieldType.boolean)) args σ Q Y := by
  obtain ⟨a0, x1, rfl, hw⟩ := hw
  refine zof hG (by decide +kernel) [false, false] ⟨rfl, (zc_rf _), trivial⟩ (Nat.le_of_ble_eq_true rfl) (ls := [some (va_rf (some a0)), some (va_rf x1)]) rfl ?_
  intro X hX hR hTb hd1 hd2 hl hg hnm
  subst hl
  subst hg
  have hd : zDep X d := ⟨hd1, hd2⟩
  refine z_aload_n hX dJ23_add_0 rfl (i := 0) rfl ?_
  refine z_aload_n hX dJ23_add_1 rfl (i := 1) rfl ?_
  obtain ⟨a4, f5, r6, m7, hw⟩ := hw
  refine z_invV hX hd r6 (ci := 18) rfl rfl m7 dJ23_add_2 (hC 465 _ zm465 _ _ _ _ hw) q1755 q1756 q1757 zh37 q1758 q169 zn465 rfl (Nat.le_of_ble_eq_true rfl) (st := []) rfl (zcs8 (Nat.le_of_ble_eq_true rfl)) rfl (zkI (fun v1 s2 hw => ?_)) (zout hX hR hTb)
  exact z_ireturn hX hR dJ23_add_5 (zn_z hw.1) hw.2
abbrev cJ23_offer : ByteArray := prog_66_method_14_code
def yJ23_offer : MethodName := ⟨RJ23, "offer", "(Ljava/lang/Object;)Z"⟩
def dkwJ23_offer_2 : List UInt8 := [182, 0, 100, 42, 28, 4, 96, 181, 0, 58, 4, 172]
abbrev dktJ23_offer_2 : List UInt8 := dkwJ23_offer_2 ++ []
def dkwJ23_offer_1 : List UInt8 := [180, 0, 58, 61, 28, 42, 180, 0, 17, 190, 161, 0, 10, 42, 28, 4, 96, 182, 0, 96, 42, 28, 43]
abbrev dktJ23_offer_1 : List UInt8 := dkwJ23_offer_1 ++ dktJ23_offer_2
def dkwJ23_offer_0 : List UInt8 := [43, 199, 0, 11, 187, 0, 74, 89, 183, 0, 76, 191, 42, 89, 180, 0, 93, 4, 96, 181, 0, 93, 42]
abbrev dktJ23_offer_0 : List UInt8 := dkwJ23_offer_0 ++ dktJ23_offer_1
theorem dksJ23_offer_0 : cJ23_offer.data.toList.drop 0 = dktJ23_offer_0 := by decide +kernel
theorem dksJ23_offer_1 : cJ23_offer.data.toList.drop 23 = dktJ23_offer_1 := dk_seg dksJ23_offer_0 23 rfl rfl
theorem dksJ23_offer_2 : cJ23_offer.data.toList.drop 46 = dktJ23_offer_2 := dk_seg dksJ23_offer_1 23 rfl rfl
theorem dJ23_offer_0 : decode cJ23_offer 0 = .ok (.aload_n 1, 1) := dk_43 (dk_at dksJ23_offer_0 0 rfl rfl)
theorem dJ23_offer_1 : decode cJ23_offer 1 = .ok (.ifnonnull 11, 3) := dk_199 0 11 (dk_at dksJ23_offer_0 1 rfl rfl)
theorem dJ23_offer_4 : decode cJ23_offer 4 = .ok (.new 74, 3) := dk_187 0 74 (dk_at dksJ23_offer_0 4 rfl rfl)
theorem dJ23_offer_7 : decode cJ23_offer 7 = .ok (.dup, 1) := dk_89 (dk_at dksJ23_offer_0 7 rfl rfl)
theorem dJ23_offer_8 : decode cJ23_offer 8 = .ok (.invokespecial 76, 3) := dk_183 0 76 (dk_at dksJ23_offer_0 8 rfl rfl)
theorem dJ23_offer_11 : decode cJ23_offer 11 = .ok (.athrow, 1) := dk_191 (dk_at dksJ23_offer_0 11 rfl rfl)
theorem dJ23_offer_12 : decode cJ23_offer 12 = .ok (.aload_n 0, 1) := dk_42 (dk_at dksJ23_offer_0 12 rfl rfl)
theorem dJ23_offer_13 : decode cJ23_offer 13 = .ok (.dup, 1) := dk_89 (dk_at dksJ23_offer_0 13 rfl rfl)
theorem dJ23_offer_14 : decode cJ23_offer 14 = .ok (.getfield 93, 3) := dk_180 0 93 (dk_at dksJ23_offer_0 14 rfl rfl)
theorem dJ23_offer_17 : decode cJ23_offer 17 = .ok (.iconst 1, 1) := dk_4 (dk_at dksJ23_offer_0 17 rfl rfl)
theorem dJ23_offer_18 : decode cJ23_offer 18 = .ok (.iadd, 1) := dk_96 (dk_at dksJ23_offer_0 18 rfl rfl)
theorem dJ23_offer_19 : decode cJ23_offer 19 = .ok (.putfield 93, 3) := dk_181 0 93 (dk_at dksJ23_offer_0 19 rfl rfl)
theorem dJ23_offer_22 : decode cJ23_offer 22 = .ok (.aload_n 0, 1) := dk_42 (dk_at dksJ23_offer_0 22 rfl rfl)
theorem dJ23_offer_23 : decode cJ23_offer 23 = .ok (.getfield 58, 3) := dk_180 0 58 (dk_at dksJ23_offer_1 0 rfl rfl)
theorem dJ23_offer_26 : decode cJ23_offer 26 = .ok (.istore_n 2, 1) := dk_61 (dk_at dksJ23_offer_1 3 rfl rfl)
theorem dJ23_offer_27 : decode cJ23_offer 27 = .ok (.iload_n 2, 1) := dk_28 (dk_at dksJ23_offer_1 4 rfl rfl)
theorem dJ23_offer_28 : decode cJ23_offer 28 = .ok (.aload_n 0, 1) := dk_42 (dk_at dksJ23_offer_1 5 rfl rfl)
theorem dJ23_offer_29 : decode cJ23_offer 29 = .ok (.getfield 17, 3) := dk_180 0 17 (dk_at dksJ23_offer_1 6 rfl rfl)
theorem dJ23_offer_32 : decode cJ23_offer 32 = .ok (.arraylength, 1) := dk_190 (dk_at dksJ23_offer_1 9 rfl rfl)
theorem dJ23_offer_33 : decode cJ23_offer 33 = .ok (.if_icmp .lt 10, 3) := dk_161 0 10 (dk_at dksJ23_offer_1 10 rfl rfl)
theorem dJ23_offer_36 : decode cJ23_offer 36 = .ok (.aload_n 0, 1) := dk_42 (dk_at dksJ23_offer_1 13 rfl rfl)
theorem dJ23_offer_37 : decode cJ23_offer 37 = .ok (.iload_n 2, 1) := dk_28 (dk_at dksJ23_offer_1 14 rfl rfl)
theorem dJ23_offer_38 : decode cJ23_offer 38 = .ok (.iconst 1, 1) := dk_4 (dk_at dksJ23_offer_1 15 rfl rfl)
theorem dJ23_offer_39 : decode cJ23_offer 39 = .ok (.iadd, 1) := dk_96 (dk_at dksJ23_offer_1 16 rfl rfl)
theorem dJ23_offer_40 : decode cJ23_offer 40 = .ok (.invokevirtual 96, 3) := dk_182 0 96 (dk_at dksJ23_offer_1 17 rfl rfl)
theorem dJ23_offer_43 : decode cJ23_offer 43 = .ok (.aload_n 0, 1) := dk_42 (dk_at dksJ23_offer_1 20 rfl rfl)
theorem dJ23_offer_44 : decode cJ23_offer 44 = .ok (.iload_n 2, 1) := dk_28 (dk_at dksJ23_offer_1 21 rfl rfl)
theorem dJ23_offer_45 : decode cJ23_offer 45 = .ok (.aload_n 1, 1) := dk_43 (dk_at dksJ23_offer_1 22 rfl rfl)
theorem dJ23_offer_46 : decode cJ23_offer 46 = .ok (.invokevirtual 100, 3) := dk_182 0 100 (dk_at dksJ23_offer_2 0 rfl rfl)
theorem dJ23_offer_49 : decode cJ23_offer 49 = .ok (.aload_n 0, 1) := dk_42 (dk_at dksJ23_offer_2 3 rfl rfl)
theorem dJ23_offer_50 : decode cJ23_offer 50 = .ok (.iload_n 2, 1) := dk_28 (dk_at dksJ23_offer_2 4 rfl rfl)
theorem dJ23_offer_51 : decode cJ23_offer 51 = .ok (.iconst 1, 1) := dk_4 (dk_at dksJ23_offer_2 5 rfl rfl)
theorem dJ23_offer_52 : decode cJ23_offer 52 = .ok (.iadd, 1) := dk_96 (dk_at dksJ23_offer_2 6 rfl rfl)
theorem dJ23_offer_53 : decode cJ23_offer 53 = .ok (.putfield 58, 3) := dk_181 0 58 (dk_at dksJ23_offer_2 7 rfl rfl)
theorem dJ23_offer_56 : decode cJ23_offer 56 = .ok (.iconst 1, 1) := dk_4 (dk_at dksJ23_offer_2 10 rfl rfl)
theorem dJ23_offer_57 : decode cJ23_offer 57 = .ok (.ireturn, 1) := dk_172 (dk_at dksJ23_offer_2 11 rfl rfl)
/-- java/util/PriorityQueue.offer(Ljava/lang/Object;)Z -/
def zb465 (G : zPg) (C : zO) (args : List Value) (Q : zQ) (Y : zY) (σ : zS) : Prop := ∃ (a0 : Nat) (x1 : Option Nat), args = [.ref a0, va_rf x1] ∧ (((¬ x1 = none) → zgI σ (some a0) 18 3 (fun v2 => zput σ G.1 (some a0) 18 3 (.int (v2 + (1 : Int32))) (fun s8 => zgI s8 (some a0) 18 1 (fun v16 => zgR s8 (some a0) 18 0 (fun v22 => zln s8 4 v22 (fun v32 => zJ (fun  (s34 : zS) => zrc s34 (some a0) 18 (fun a39 => zcl C 467 [.ref a39, .int v16, va_rf x1] Y s34 (zqV (fun s37 => zput s37 G.1 (some a0) 18 1 (.int (v16 + (1 : Int32))) (fun s43 => zbool (1 : Int32) ∧ Q (some (.int (1 : Int32))) s43))))) (fun (j35 : zS → Prop) => ((v16 < v32) → j35 s8) ∧ ((¬ v16 < v32) → zrc s8 (some a0) 18 (fun a55 => zcl C 466 [.ref a55, .int (v16 + (1 : Int32))] Y s8 (zqV (fun s53 => j35 s53))))))))))) ∧ ((x1 = none) → False))
set_option maxHeartbeats 4000000 in
theorem wk465 {l : Launch} {g : zG} {d : Nat} {C : zO} (hG : zGk g) (hC : zSound l g d C) {args : List Value} {Q : zQ} {Y : zY} {σ : zS} (hw : zb465 (zpg g) C args Q Y σ) : zMet l g (d + 1) (⟨"java/util/PriorityQueue", "offer", "(Ljava/lang/Object;)Z"⟩, Cond.code ⟨"java/util/PriorityQueue", "offer", "(Ljava/lang/Object;)Z"⟩ prog_66_method_14_code 3 (Option.some FieldType.boolean)) args σ Q Y := by
  obtain ⟨a0, x1, rfl, hw⟩ := hw
  refine zof hG (by decide +kernel) [false, false] ⟨rfl, (zc_rf _), trivial⟩ (Nat.le_of_ble_eq_true rfl) (ls := [some (va_rf (some a0)), some (va_rf x1), none]) rfl ?_
  intro X hX hR hTb hd1 hd2 hl hg hnm
  subst hl
  subst hg
  have hd : zDep X d := ⟨hd1, hd2⟩
  refine z_aload_n hX dJ23_offer_0 rfl (i := 1) rfl ?_
  refine z_ifnonnull hX dJ23_offer_1 (tgt := 12) rfl (fun c1 => ?_) (fun c1 => ?_)
  · have hw := hw.1 c1
    refine z_aload_n hX dJ23_offer_12 rfl (i := 0) rfl ?_
    refine z_dup hX dJ23_offer_13 (zc_rf _) ?_
    obtain ⟨a3, f4, v2, r5, m6, e7, hw⟩ := hw
    refine z_get hX zc18 (k := 3) dJ23_offer_14 (Nat.le_of_ble_eq_true rfl) (zlk hX q1724) r5 m6 e7 ?_
    refine z_iconst hX (v := (1 : Int32)) dJ23_offer_17 (by decide) ?_
    refine z_iadd hX dJ23_offer_18 ?_
    obtain ⟨a10, f11, r12, g13, m14, l15, hw⟩ := hw
    refine z_put hX zc18 (k := 3) dJ23_offer_19 (Nat.le_of_ble_eq_true rfl) (zlk hX q1724) rfl rfl rfl r12 g13 m14 l15 (z_nm (fun s8 e9 => ?_))
    have hw := hw s8 e9
    refine z_aload_n hX dJ23_offer_22 rfl (i := 0) rfl ?_
    obtain ⟨a17, f18, v16, r19, m20, e21, hw⟩ := hw
    refine z_get hX zc18 (k := 1) dJ23_offer_23 (Nat.le_of_ble_eq_true rfl) (zlk hX q1722) r19 m20 e21 ?_
    refine z_istore_n hX dJ23_offer_26 rfl (i := 2) (Nat.le_of_ble_eq_true rfl) (zc_rf _) (ls2 := [some (va_rf (some a0)), some (va_rf x1), some (.int v16)]) rfl ?_
    refine z_iload_n hX dJ23_offer_27 rfl (i := 2) rfl ?_
    refine z_aload_n hX dJ23_offer_28 rfl (i := 0) rfl ?_
    obtain ⟨a23, f24, v22, r25, m26, e27, hw⟩ := hw
    refine z_get hX zc18 (k := 0) dJ23_offer_29 (Nat.le_of_ble_eq_true rfl) (zlk hX q1721) r25 m26 e27 ?_
    obtain ⟨a28, n29, r30, m31, hw⟩ := hw
    refine z_alen hX 4 dJ23_offer_32 r30 m31 ?_
    revert hw
    generalize nI n29.1 = v32
    intro hw
    refine zJ_w (P := fun (j : zS → Prop) => ∀  (s34 : zS), j  s34 → zW X s34 43 [some (va_rf (some a0)), some (va_rf x1), some (.int v16)] []) hw (fun  s34 hw => ?_) (fun j35 hj35 hw => ?_)
    · refine z_aload_n hX dJ23_offer_43 rfl (i := 0) rfl ?_
      refine z_iload_n hX dJ23_offer_44 rfl (i := 2) rfl ?_
      refine z_aload_n hX dJ23_offer_45 rfl (i := 1) rfl ?_
      obtain ⟨a39, f40, r41, m42, hw⟩ := hw
      refine z_invV hX hd r41 (ci := 18) rfl rfl m42 dJ23_offer_46 (hC 467 _ zm467 _ _ _ _ hw) q1765 q1767 qs28 zh37 q1768 q169 zn467 rfl (Nat.le_of_ble_eq_true rfl) (st := []) rfl (zcs8 (Nat.le_of_ble_eq_true rfl)) rfl (zkV (fun s37 hw => ?_)) (zout hX hR hTb)
      refine z_aload_n hX dJ23_offer_49 rfl (i := 0) rfl ?_
      refine z_iload_n hX dJ23_offer_50 rfl (i := 2) rfl ?_
      refine z_iconst hX (v := (1 : Int32)) dJ23_offer_51 (by decide) ?_
      refine z_iadd hX dJ23_offer_52 ?_
      obtain ⟨a45, f46, r47, g48, m49, l50, hw⟩ := hw
      refine z_put hX zc18 (k := 1) dJ23_offer_53 (Nat.le_of_ble_eq_true rfl) (zlk hX q1722) rfl rfl rfl r47 g48 m49 l50 (z_nm (fun s43 e44 => ?_))
      have hw := hw s43 e44
      refine z_iconst hX (v := (1 : Int32)) dJ23_offer_56 (by decide) ?_
      exact z_ireturn hX hR dJ23_offer_57 (zn_z hw.1) hw.2
    · refine z_icmp_lt hX dJ23_offer_33 (tgt := 43) rfl (fun c51 => ?_) (fun c51 => ?_)
      · have hw := hw.1 c51
        exact hj35  _ hw
      · have hw := hw.2 c51
        refine z_aload_n hX dJ23_offer_36 rfl (i := 0) rfl ?_
        refine z_iload_n hX dJ23_offer_37 rfl (i := 2) rfl ?_
        refine z_iconst hX (v := (1 : Int32)) dJ23_offer_38 (by decide) ?_
        refine z_iadd hX dJ23_offer_39 ?_
        obtain ⟨a55, f56, r57, m58, hw⟩ := hw
        refine z_invV hX hd r57 (ci := 18) rfl rfl m58 dJ23_offer_40 (hC 466 _ zm466 _ _ _ _ hw) q1759 q1761 qs27 zh37 q1762 q169 zn466 rfl (Nat.le_of_ble_eq_true rfl) (st := []) rfl (zcs8 (Nat.le_of_ble_eq_true rfl)) rfl (zkV (fun s53 hw => ?_)) (zout hX hR hTb)
        exact hj35  _ hw
  · have hw := hw.2 c1
    exact hw.elim
abbrev cJ23_grow : ByteArray := prog_66_method_12_code
def yJ23_grow : MethodName := ⟨RJ23, "grow", "(I)V"⟩
def dkwJ23_grow_1 : List UInt8 := [122, 184, 0, 80, 62, 42, 42, 180, 0, 17, 29, 184, 0, 86, 181, 0, 17, 177]
abbrev dktJ23_grow_1 : List UInt8 := dkwJ23_grow_1 ++ []
def dkwJ23_grow_0 : List UInt8 := [42, 180, 0, 17, 190, 61, 28, 27, 28, 100, 28, 16, 64, 162, 0, 9, 28, 5, 96, 167, 0, 6, 28, 4]
abbrev dktJ23_grow_0 : List UInt8 := dkwJ23_grow_0 ++ dktJ23_grow_1
theorem dksJ23_grow_0 : cJ23_grow.data.toList.drop 0 = dktJ23_grow_0 := by decide +kernel
theorem dksJ23_grow_1 : cJ23_grow.data.toList.drop 24 = dktJ23_grow_1 := dk_seg dksJ23_grow_0 24 rfl rfl
theorem dJ23_grow_0 : decode cJ23_grow 0 = .ok (.aload_n 0, 1) := dk_42 (dk_at dksJ23_grow_0 0 rfl rfl)
theorem dJ23_grow_1 : decode cJ23_grow 1 = .ok (.getfield 17, 3) := dk_180 0 17 (dk_at dksJ23_grow_0 1 rfl rfl)
theorem dJ23_grow_4 : decode cJ23_grow 4 = .ok (.arraylength, 1) := dk_190 (dk_at dksJ23_grow_0 4 rfl rfl)
theorem dJ23_grow_5 : decode cJ23_grow 5 = .ok (.istore_n 2, 1) := dk_61 (dk_at dksJ23_grow_0 5 rfl rfl)
theorem dJ23_grow_6 : decode cJ23_grow 6 = .ok (.iload_n 2, 1) := dk_28 (dk_at dksJ23_grow_0 6 rfl rfl)
theorem dJ23_grow_7 : decode cJ23_grow 7 = .ok (.iload_n 1, 1) := dk_27 (dk_at dksJ23_grow_0 7 rfl rfl)
theorem dJ23_grow_8 : decode cJ23_grow 8 = .ok (.iload_n 2, 1) := dk_28 (dk_at dksJ23_grow_0 8 rfl rfl)
theorem dJ23_grow_9 : decode cJ23_grow 9 = .ok (.isub, 1) := dk_100 (dk_at dksJ23_grow_0 9 rfl rfl)
theorem dJ23_grow_10 : decode cJ23_grow 10 = .ok (.iload_n 2, 1) := dk_28 (dk_at dksJ23_grow_0 10 rfl rfl)
theorem dJ23_grow_11 : decode cJ23_grow 11 = .ok (.bipush 64, 2) := dk_16 64 (dk_at dksJ23_grow_0 11 rfl rfl)
theorem dJ23_grow_13 : decode cJ23_grow 13 = .ok (.if_icmp .ge 9, 3) := dk_162 0 9 (dk_at dksJ23_grow_0 13 rfl rfl)
theorem dJ23_grow_16 : decode cJ23_grow 16 = .ok (.iload_n 2, 1) := dk_28 (dk_at dksJ23_grow_0 16 rfl rfl)
theorem dJ23_grow_17 : decode cJ23_grow 17 = .ok (.iconst 2, 1) := dk_5 (dk_at dksJ23_grow_0 17 rfl rfl)
theorem dJ23_grow_18 : decode cJ23_grow 18 = .ok (.iadd, 1) := dk_96 (dk_at dksJ23_grow_0 18 rfl rfl)
theorem dJ23_grow_19 : decode cJ23_grow 19 = .ok (.goto 6, 3) := dk_167 0 6 (dk_at dksJ23_grow_0 19 rfl rfl)
theorem dJ23_grow_22 : decode cJ23_grow 22 = .ok (.iload_n 2, 1) := dk_28 (dk_at dksJ23_grow_0 22 rfl rfl)
theorem dJ23_grow_23 : decode cJ23_grow 23 = .ok (.iconst 1, 1) := dk_4 (dk_at dksJ23_grow_0 23 rfl rfl)
theorem dJ23_grow_24 : decode cJ23_grow 24 = .ok (.ishr, 1) := dk_122 (dk_at dksJ23_grow_1 0 rfl rfl)
theorem dJ23_grow_25 : decode cJ23_grow 25 = .ok (.invokestatic 80, 3) := dk_184 0 80 (dk_at dksJ23_grow_1 1 rfl rfl)
theorem dJ23_grow_28 : decode cJ23_grow 28 = .ok (.istore_n 3, 1) := dk_62 (dk_at dksJ23_grow_1 4 rfl rfl)
theorem dJ23_grow_29 : decode cJ23_grow 29 = .ok (.aload_n 0, 1) := dk_42 (dk_at dksJ23_grow_1 5 rfl rfl)
theorem dJ23_grow_30 : decode cJ23_grow 30 = .ok (.aload_n 0, 1) := dk_42 (dk_at dksJ23_grow_1 6 rfl rfl)
theorem dJ23_grow_31 : decode cJ23_grow 31 = .ok (.getfield 17, 3) := dk_180 0 17 (dk_at dksJ23_grow_1 7 rfl rfl)
theorem dJ23_grow_34 : decode cJ23_grow 34 = .ok (.iload_n 3, 1) := dk_29 (dk_at dksJ23_grow_1 10 rfl rfl)
theorem dJ23_grow_35 : decode cJ23_grow 35 = .ok (.invokestatic 86, 3) := dk_184 0 86 (dk_at dksJ23_grow_1 11 rfl rfl)
theorem dJ23_grow_38 : decode cJ23_grow 38 = .ok (.putfield 17, 3) := dk_181 0 17 (dk_at dksJ23_grow_1 14 rfl rfl)
theorem dJ23_grow_41 : decode cJ23_grow 41 = .ok (.return_, 1) := dk_177 (dk_at dksJ23_grow_1 17 rfl rfl)
/-- java/util/PriorityQueue.grow(I)V -/
def zb466 (G : zPg) (C : zO) (args : List Value) (Q : zQ) (Y : zY) (σ : zS) : Prop := ∃ (a0 : Nat) (x1 : Int32), args = [.ref a0, .int x1] ∧ (zgR σ (some a0) 18 0 (fun v1 => zln σ 4 v1 (fun v11 => zJ (fun (p13 : Int32) (s14 : zS) => zcl C 395 [.int v11, .int (x1 - v11), .int p13] Y s14 (zqI (fun v16 s17 => zgR s17 (some a0) 18 0 (fun v19 => zcl C 406 [va_rf v19, .int v16] Y s17 (zqR (fun v25 s26 => zput s26 G.1 (some a0) 18 0 (va_rf v25) (fun s28 => Q none s28))))))) (fun (j15 : Int32 → zS → Prop) => (((64 : Int32) ≤ v11) → j15 (v11 >>> ((1 : Int32) &&& 31)) σ) ∧ ((¬ (64 : Int32) ≤ v11) → j15 (v11 + (2 : Int32)) σ)))))
set_option maxHeartbeats 4000000 in
theorem wk466 {l : Launch} {g : zG} {d : Nat} {C : zO} (hG : zGk g) (hC : zSound l g d C) {args : List Value} {Q : zQ} {Y : zY} {σ : zS} (hw : zb466 (zpg g) C args Q Y σ) : zMet l g (d + 1) (⟨"java/util/PriorityQueue", "grow", "(I)V"⟩, Cond.code ⟨"java/util/PriorityQueue", "grow", "(I)V"⟩ prog_66_method_12_code 4 (Option.none : Option FieldType)) args σ Q Y := by
  obtain ⟨a0, x1, rfl, hw⟩ := hw
  refine zof hG (by decide +kernel) [false, false] ⟨rfl, rfl, trivial⟩ (Nat.le_of_ble_eq_true rfl) (ls := [some (va_rf (some a0)), some (.int x1), none, none]) rfl ?_
  intro X hX hR hTb hd1 hd2 hl hg hnm
  subst hl
  subst hg
  have hd : zDep X d := ⟨hd1, hd2⟩
  refine z_aload_n hX dJ23_grow_0 rfl (i := 0) rfl ?_
  obtain ⟨a2, f3, v1, r4, m5, e6, hw⟩ := hw
  refine z_get hX zc18 (k := 0) dJ23_grow_1 (Nat.le_of_ble_eq_true rfl) (zlk hX q1721) r4 m5 e6 ?_
  obtain ⟨a7, n8, r9, m10, hw⟩ := hw
  refine z_alen hX 4 dJ23_grow_4 r9 m10 ?_
  revert hw
  generalize nI n8.1 = v11
  intro hw
  refine z_istore_n hX dJ23_grow_5 rfl (i := 2) (Nat.le_of_ble_eq_true rfl) rfl (ls2 := [some (va_rf (some a0)), some (.int x1), some (.int v11), none]) rfl ?_
  refine z_iload_n hX dJ23_grow_6 rfl (i := 2) rfl ?_
  refine z_iload_n hX dJ23_grow_7 rfl (i := 1) rfl ?_
  refine z_iload_n hX dJ23_grow_8 rfl (i := 2) rfl ?_
  refine z_isub hX dJ23_grow_9 ?_
  refine z_iload_n hX dJ23_grow_10 rfl (i := 2) rfl ?_
  refine z_bipush hX (v := (64 : Int32)) dJ23_grow_11 (by decide) ?_
  refine zJ_w (P := fun (j : Int32 → zS → Prop) => ∀ (p13 : Int32) (s14 : zS), j p13 s14 → zW X s14 25 [some (va_rf (some a0)), none, none, none] [.int p13, .int (x1 - v11), .int v11]) hw (fun p13 s14 hw => ?_) (fun j15 hj15 hw => ?_)
  · refine z_invS hX hd dJ23_grow_25 (hC 395 _ zm395 _ _ _ _ hw) q1763 q781 zh19 q782 q148 zn395 rfl (Nat.le_of_ble_eq_true rfl) (st := []) rfl (zcs8 (Nat.le_of_ble_eq_true rfl)) rfl (zkI (fun v16 s17 hw => ?_)) (zout hX hR hTb)
    refine z_istore_n hX dJ23_grow_28 rfl (i := 3) (Nat.le_of_ble_eq_true rfl) trivial (ls2 := [some (va_rf (some a0)), none, none, some (.int v16)]) rfl ?_
    refine z_aload_n hX dJ23_grow_29 rfl (i := 0) rfl ?_
    refine z_aload_n hX dJ23_grow_30 rfl (i := 0) rfl ?_
    obtain ⟨a20, f21, v19, r22, m23, e24, hw⟩ := hw
    refine z_get hX zc18 (k := 0) dJ23_grow_31 (Nat.le_of_ble_eq_true rfl) (zlk hX q1721) r22 m23 e24 ?_
    refine z_iload_n hX dJ23_grow_34 rfl (i := 3) rfl ?_
    refine z_invS hX hd dJ23_grow_35 (hC 406 _ zm406 _ _ _ _ hw) q1764 q789 zh20 q790 q149 zn406 rfl (Nat.le_of_ble_eq_true rfl) (st := [va_rf (some a0)]) rfl (zcs8 (Nat.le_of_ble_eq_true rfl)) rfl (zkR (fun v25 s26 hw => ?_)) (zout hX hR hTb)
    obtain ⟨a30, f31, r32, g33, m34, l35, hw⟩ := hw
    refine z_put hX zc18 (k := 0) dJ23_grow_38 (Nat.le_of_ble_eq_true rfl) (zlk hX q1721) rfl (zn_a _ _) (zf_a _ _) r32 g33 m34 l35 (z_nm (fun s28 e29 => ?_))
    have hw := hw s28 e29
    exact z_return hX hR dJ23_grow_41 hw
  · refine z_icmp_ge hX dJ23_grow_13 (tgt := 22) rfl (fun c36 => ?_) (fun c36 => ?_)
    · have hw := hw.1 c36
      refine z_iload_n hX dJ23_grow_22 rfl (i := 2) rfl ?_
      refine z_iconst hX (v := (1 : Int32)) dJ23_grow_23 (by decide) ?_
      refine z_ishr hX dJ23_grow_24 ?_
      refine z_sub (ls' := [some (va_rf (some a0)), none, none, none]) (zsS (zsN (zsN (zsN (zs0))))) ?_
      exact hj15 _ _ hw
    · have hw := hw.2 c36
      refine z_iload_n hX dJ23_grow_16 rfl (i := 2) rfl ?_
      refine z_iconst hX (v := (2 : Int32)) dJ23_grow_17 (by decide) ?_
      refine z_iadd hX dJ23_grow_18 ?_
      refine z_goto hX dJ23_grow_19 (tgt := 25) rfl ?_
      refine z_sub (ls' := [some (va_rf (some a0)), none, none, none]) (zsS (zsN (zsN (zsN (zs0))))) ?_
      exact hj15 _ _ hw
abbrev cJ23_siftUp : ByteArray := prog_66_method_27_code
def yJ23_siftUp : MethodName := ⟨RJ23, "siftUp", "(ILjava/lang/Object;)V"⟩
def dkwJ23_siftUp_1 : List UInt8 := [44, 42, 180, 0, 17, 184, 0, 140, 177]
abbrev dktJ23_siftUp_1 : List UInt8 := dkwJ23_siftUp_1 ++ []
def dkwJ23_siftUp_0 : List UInt8 := [42, 180, 0, 21, 198, 0, 19, 27, 44, 42, 180, 0, 17, 42, 180, 0, 21, 184, 0, 136, 167, 0, 12, 27]
abbrev dktJ23_siftUp_0 : List UInt8 := dkwJ23_siftUp_0 ++ dktJ23_siftUp_1
theorem dksJ23_siftUp_0 : cJ23_siftUp.data.toList.drop 0 = dktJ23_siftUp_0 := by decide +kernel
theorem dksJ23_siftUp_1 : cJ23_siftUp.data.toList.drop 24 = dktJ23_siftUp_1 := dk_seg dksJ23_siftUp_0 24 rfl rfl
theorem dJ23_siftUp_0 : decode cJ23_siftUp 0 = .ok (.aload_n 0, 1) := dk_42 (dk_at dksJ23_siftUp_0 0 rfl rfl)
theorem dJ23_siftUp_1 : decode cJ23_siftUp 1 = .ok (.getfield 21, 3) := dk_180 0 21 (dk_at dksJ23_siftUp_0 1 rfl rfl)
theorem dJ23_siftUp_4 : decode cJ23_siftUp 4 = .ok (.ifnull 19, 3) := dk_198 0 19 (dk_at dksJ23_siftUp_0 4 rfl rfl)
theorem dJ23_siftUp_7 : decode cJ23_siftUp 7 = .ok (.iload_n 1, 1) := dk_27 (dk_at dksJ23_siftUp_0 7 rfl rfl)
theorem dJ23_siftUp_8 : decode cJ23_siftUp 8 = .ok (.aload_n 2, 1) := dk_44 (dk_at dksJ23_siftUp_0 8 rfl rfl)
theorem dJ23_siftUp_9 : decode cJ23_siftUp 9 = .ok (.aload_n 0, 1) := dk_42 (dk_at dksJ23_siftUp_0 9 rfl rfl)
theorem dJ23_siftUp_10 : decode cJ23_siftUp 10 = .ok (.getfield 17, 3) := dk_180 0 17 (dk_at dksJ23_siftUp_0 10 rfl rfl)
theorem dJ23_siftUp_13 : decode cJ23_siftUp 13 = .ok (.aload_n 0, 1) := dk_42 (dk_at dksJ23_siftUp_0 13 rfl rfl)
theorem dJ23_siftUp_14 : decode cJ23_siftUp 14 = .ok (.getfield 21, 3) := dk_180 0 21 (dk_at dksJ23_siftUp_0 14 rfl rfl)
theorem dJ23_siftUp_17 : decode cJ23_siftUp 17 = .ok (.invokestatic 136, 3) := dk_184 0 136 (dk_at dksJ23_siftUp_0 17 rfl rfl)
theorem dJ23_siftUp_20 : decode cJ23_siftUp 20 = .ok (.goto 12, 3) := dk_167 0 12 (dk_at dksJ23_siftUp_0 20 rfl rfl)
theorem dJ23_siftUp_23 : decode cJ23_siftUp 23 = .ok (.iload_n 1, 1) := dk_27 (dk_at dksJ23_siftUp_0 23 rfl rfl)
theorem dJ23_siftUp_24 : decode cJ23_siftUp 24 = .ok (.aload_n 2, 1) := dk_44 (dk_at dksJ23_siftUp_1 0 rfl rfl)
theorem dJ23_siftUp_25 : decode cJ23_siftUp 25 = .ok (.aload_n 0, 1) := dk_42 (dk_at dksJ23_siftUp_1 1 rfl rfl)
theorem dJ23_siftUp_26 : decode cJ23_siftUp 26 = .ok (.getfield 17, 3) := dk_180 0 17 (dk_at dksJ23_siftUp_1 2 rfl rfl)
theorem dJ23_siftUp_29 : decode cJ23_siftUp 29 = .ok (.invokestatic 140, 3) := dk_184 0 140 (dk_at dksJ23_siftUp_1 5 rfl rfl)
theorem dJ23_siftUp_32 : decode cJ23_siftUp 32 = .ok (.return_, 1) := dk_177 (dk_at dksJ23_siftUp_1 8 rfl rfl)
/-- java/util/PriorityQueue.siftUp(ILjava/lang/Object;)V -/
def zb467 (G : zPg) (C : zO) (args : List Value) (Q : zQ) (Y : zY) (σ : zS) : Prop := ∃ (a0 : Nat) (x1 : Int32) (x2 : Option Nat), args = [.ref a0, .int x1, va_rf x2] ∧ (zgR σ (some a0) 18 2 (fun v1 => zJ (fun  (s7 : zS) => Q none s7) (fun (j8 : zS → Prop) => ((v1 = none) → zgR σ (some a0) 18 0 (fun v10 => zcl C 469 [.int x1, va_rf x2, va_rf v10] Y σ (zqV (fun s17 => j8 s17)))) ∧ ((¬ v1 = none) → zgR σ (some a0) 18 0 (fun v19 => zgR σ (some a0) 18 2 (fun v25 => zcl C 468 [.int x1, va_rf x2, va_rf v19, va_rf v25] Y σ (zqV (fun s32 => j8 s32))))))))
set_option maxHeartbeats 4000000 in
theorem wk467 {l : Launch} {g : zG} {d : Nat} {C : zO} (hG : zGk g) (hC : zSound l g d C) {args : List Value} {Q : zQ} {Y : zY} {σ : zS} (hw : zb467 (zpg g) C args Q Y σ) : zMet l g (d + 1) (⟨"java/util/PriorityQueue", "siftUp", "(ILjava/lang/Object;)V"⟩, Cond.code ⟨"java/util/PriorityQueue", "siftUp", "(ILjava/lang/Object;)V"⟩ prog_66_method_27_code 3 (Option.none : Option FieldType)) args σ Q Y := by
  obtain ⟨a0, x1, x2, rfl, hw⟩ := hw
  refine zof hG (by decide +kernel) [false, false, false] ⟨rfl, rfl, (zc_rf _), trivial⟩ (Nat.le_of_ble_eq_true rfl) (ls := [some (va_rf (some a0)), some (.int x1), some (va_rf x2)]) rfl ?_
  intro X hX hR hTb hd1 hd2 hl hg hnm
  subst hl
  subst hg
  have hd : zDep X d := ⟨hd1, hd2⟩
  refine z_aload_n hX dJ23_siftUp_0 rfl (i := 0) rfl ?_
  obtain ⟨a2, f3, v1, r4, m5, e6, hw⟩ := hw
  refine z_get hX zc18 (k := 2) dJ23_siftUp_1 (Nat.le_of_ble_eq_true rfl) (zlk hX q1723) r4 m5 e6 ?_
  refine zJ_w (P := fun (j : zS → Prop) => ∀  (s7 : zS), j  s7 → zW X s7 32 [none, none, none] []) hw (fun  s7 hw => ?_) (fun j8 hj8 hw => ?_)
  · exact z_return hX hR dJ23_siftUp_32 hw
  · refine z_ifnull hX dJ23_siftUp_4 (tgt := 23) rfl (fun c9 => ?_) (fun c9 => ?_)
    · have hw := hw.1 c9
      refine z_iload_n hX dJ23_siftUp_23 rfl (i := 1) rfl ?_
      refine z_aload_n hX dJ23_siftUp_24 rfl (i := 2) rfl ?_
      refine z_aload_n hX dJ23_siftUp_25 rfl (i := 0) rfl ?_
      obtain ⟨a11, f12, v10, r13, m14, e15, hw⟩ := hw
      refine z_get hX zc18 (k := 0) dJ23_siftUp_26 (Nat.le_of_ble_eq_true rfl) (zlk hX q1721) r13 m14 e15 ?_
      refine z_invS hX hd dJ23_siftUp_29 (hC 469 _ zm469 _ _ _ _ hw) q1790 q1791 zh37 q1792 q169 zn469 rfl (Nat.le_of_ble_eq_true rfl) (st := []) rfl (zcs8 (Nat.le_of_ble_eq_true rfl)) rfl (zkV (fun s17 hw => ?_)) (zout hX hR hTb)
      refine z_sub (ls' := [none, none, none]) (zsN (zsN (zsN (zs0)))) ?_
      exact hj8  _ hw
    · have hw := hw.2 c9
      refine z_iload_n hX dJ23_siftUp_7 rfl (i := 1) rfl ?_
      refine z_aload_n hX dJ23_siftUp_8 rfl (i := 2) rfl ?_
      refine z_aload_n hX dJ23_siftUp_9 rfl (i := 0) rfl ?_
      obtain ⟨a20, f21, v19, r22, m23, e24, hw⟩ := hw
      refine z_get hX zc18 (k := 0) dJ23_siftUp_10 (Nat.le_of_ble_eq_true rfl) (zlk hX q1721) r22 m23 e24 ?_
      refine z_aload_n hX dJ23_siftUp_13 rfl (i := 0) rfl ?_
      obtain ⟨a26, f27, v25, r28, m29, e30, hw⟩ := hw
      refine z_get hX zc18 (k := 2) dJ23_siftUp_14 (Nat.le_of_ble_eq_true rfl) (zlk hX q1723) r28 m29 e30 ?_
      refine z_invS hX hd dJ23_siftUp_17 (hC 468 _ zm468 _ _ _ _ hw) q1769 q1770 zh37 q1771 q169 zn468 rfl (Nat.le_of_ble_eq_true rfl) (st := []) rfl (zcs8 (Nat.le_of_ble_eq_true rfl)) rfl (zkV (fun s32 hw => ?_)) (zout hX hR hTb)
      refine z_goto hX dJ23_siftUp_20 (tgt := 32) rfl ?_
      refine z_sub (ls' := [none, none, none]) (zsN (zsN (zsN (zs0)))) ?_
      exact hj8  _ hw
abbrev cJ23_siftUpUsingComparator : ByteArray := prog_66_method_29_code
def yJ23_siftUpUsingComparator : MethodName := ⟨RJ23, "siftUpUsingComparator", "(ILjava/lang/Object;[Ljava/lang/Object;Ljava/util/Comparator;)V"⟩
def dkwJ23_siftUpUsingComparator_2 : List UInt8 := [43, 83, 177]
abbrev dktJ23_siftUpUsingComparator_2 : List UInt8 := dkwJ23_siftUpUsingComparator_2 ++ []
def dkwJ23_siftUpUsingComparator_1 : List UInt8 := [185, 0, 149, 3, 0, 155, 0, 6, 167, 0, 14, 44, 26, 25, 5, 83, 21, 4, 59, 167, 255, 216, 44, 26]
abbrev dktJ23_siftUpUsingComparator_1 : List UInt8 := dkwJ23_siftUpUsingComparator_1 ++ dktJ23_siftUpUsingComparator_2
def dkwJ23_siftUpUsingComparator_0 : List UInt8 := [26, 158, 0, 42, 26, 4, 100, 4, 124, 54, 4, 44, 21, 4, 50, 58, 5, 45, 43, 25, 5]
abbrev dktJ23_siftUpUsingComparator_0 : List UInt8 := dkwJ23_siftUpUsingComparator_0 ++ dktJ23_siftUpUsingComparator_1
theorem dksJ23_siftUpUsingComparator_0 : cJ23_siftUpUsingComparator.data.toList.drop 0 = dktJ23_siftUpUsingComparator_0 := by decide +kernel
theorem dksJ23_siftUpUsingComparator_1 : cJ23_siftUpUsingComparator.data.toList.drop 21 = dktJ23_siftUpUsingComparator_1 := dk_seg dksJ23_siftUpUsingComparator_0 21 rfl rfl
theorem dksJ23_siftUpUsingComparator_2 : cJ23_siftUpUsingComparator.data.toList.drop 45 = dktJ23_siftUpUsingComparator_2 := dk_seg dksJ23_siftUpUsingComparator_1 24 rfl rfl
theorem dJ23_siftUpUsingComparator_0 : decode cJ23_siftUpUsingComparator 0 = .ok (.iload_n 0, 1) := dk_26 (dk_at dksJ23_siftUpUsingComparator_0 0 rfl rfl)
theorem dJ23_siftUpUsingComparator_1 : decode cJ23_siftUpUsingComparator 1 = .ok (.ifCond .le 42, 3) := dk_158 0 42 (dk_at dksJ23_siftUpUsingComparator_0 1 rfl rfl)
theorem dJ23_siftUpUsingComparator_4 : decode cJ23_siftUpUsingComparator 4 = .ok (.iload_n 0, 1) := dk_26 (dk_at dksJ23_siftUpUsingComparator_0 4 rfl rfl)
theorem dJ23_siftUpUsingComparator_5 : decode cJ23_siftUpUsingComparator 5 = .ok (.iconst 1, 1) := dk_4 (dk_at dksJ23_siftUpUsingComparator_0 5 rfl rfl)
theorem dJ23_siftUpUsingComparator_6 : decode cJ23_siftUpUsingComparator 6 = .ok (.isub, 1) := dk_100 (dk_at dksJ23_siftUpUsingComparator_0 6 rfl rfl)
theorem dJ23_siftUpUsingComparator_7 : decode cJ23_siftUpUsingComparator 7 = .ok (.iconst 1, 1) := dk_4 (dk_at dksJ23_siftUpUsingComparator_0 7 rfl rfl)
theorem dJ23_siftUpUsingComparator_8 : decode cJ23_siftUpUsingComparator 8 = .ok (.iushr, 1) := dk_124 (dk_at dksJ23_siftUpUsingComparator_0 8 rfl rfl)
theorem dJ23_siftUpUsingComparator_9 : decode cJ23_siftUpUsingComparator 9 = .ok (.istore 4, 2) := dk_54 4 (dk_at dksJ23_siftUpUsingComparator_0 9 rfl rfl)
theorem dJ23_siftUpUsingComparator_11 : decode cJ23_siftUpUsingComparator 11 = .ok (.aload_n 2, 1) := dk_44 (dk_at dksJ23_siftUpUsingComparator_0 11 rfl rfl)
theorem dJ23_siftUpUsingComparator_12 : decode cJ23_siftUpUsingComparator 12 = .ok (.iload 4, 2) := dk_21 4 (dk_at dksJ23_siftUpUsingComparator_0 12 rfl rfl)
theorem dJ23_siftUpUsingComparator_14 : decode cJ23_siftUpUsingComparator 14 = .ok (.aaload, 1) := dk_50 (dk_at dksJ23_siftUpUsingComparator_0 14 rfl rfl)
theorem dJ23_siftUpUsingComparator_15 : decode cJ23_siftUpUsingComparator 15 = .ok (.astore 5, 2) := dk_58 5 (dk_at dksJ23_siftUpUsingComparator_0 15 rfl rfl)
theorem dJ23_siftUpUsingComparator_17 : decode cJ23_siftUpUsingComparator 17 = .ok (.aload_n 3, 1) := dk_45 (dk_at dksJ23_siftUpUsingComparator_0 17 rfl rfl)
theorem dJ23_siftUpUsingComparator_18 : decode cJ23_siftUpUsingComparator 18 = .ok (.aload_n 1, 1) := dk_43 (dk_at dksJ23_siftUpUsingComparator_0 18 rfl rfl)
theorem dJ23_siftUpUsingComparator_19 : decode cJ23_siftUpUsingComparator 19 = .ok (.aload 5, 2) := dk_25 5 (dk_at dksJ23_siftUpUsingComparator_0 19 rfl rfl)
theorem dJ23_siftUpUsingComparator_21 : decode cJ23_siftUpUsingComparator 21 = .ok (.invokeinterface 149 3, 5) := by decide +kernel
theorem dJ23_siftUpUsingComparator_26 : decode cJ23_siftUpUsingComparator 26 = .ok (.ifCond .lt 6, 3) := dk_155 0 6 (dk_at dksJ23_siftUpUsingComparator_1 5 rfl rfl)
theorem dJ23_siftUpUsingComparator_29 : decode cJ23_siftUpUsingComparator 29 = .ok (.goto 14, 3) := dk_167 0 14 (dk_at dksJ23_siftUpUsingComparator_1 8 rfl rfl)
theorem dJ23_siftUpUsingComparator_32 : decode cJ23_siftUpUsingComparator 32 = .ok (.aload_n 2, 1) := dk_44 (dk_at dksJ23_siftUpUsingComparator_1 11 rfl rfl)
theorem dJ23_siftUpUsingComparator_33 : decode cJ23_siftUpUsingComparator 33 = .ok (.iload_n 0, 1) := dk_26 (dk_at dksJ23_siftUpUsingComparator_1 12 rfl rfl)
theorem dJ23_siftUpUsingComparator_34 : decode cJ23_siftUpUsingComparator 34 = .ok (.aload 5, 2) := dk_25 5 (dk_at dksJ23_siftUpUsingComparator_1 13 rfl rfl)
theorem dJ23_siftUpUsingComparator_36 : decode cJ23_siftUpUsingComparator 36 = .ok (.aastore, 1) := dk_83 (dk_at dksJ23_siftUpUsingComparator_1 15 rfl rfl)
theorem dJ23_siftUpUsingComparator_37 : decode cJ23_siftUpUsingComparator 37 = .ok (.iload 4, 2) := dk_21 4 (dk_at dksJ23_siftUpUsingComparator_1 16 rfl rfl)
theorem dJ23_siftUpUsingComparator_39 : decode cJ23_siftUpUsingComparator 39 = .ok (.istore_n 0, 1) := dk_59 (dk_at dksJ23_siftUpUsingComparator_1 18 rfl rfl)
theorem dJ23_siftUpUsingComparator_40 : decode cJ23_siftUpUsingComparator 40 = .ok (.goto (-40), 3) := dk_167 255 216 (dk_at dksJ23_siftUpUsingComparator_1 19 rfl rfl)
theorem dJ23_siftUpUsingComparator_43 : decode cJ23_siftUpUsingComparator 43 = .ok (.aload_n 2, 1) := dk_44 (dk_at dksJ23_siftUpUsingComparator_1 22 rfl rfl)
theorem dJ23_siftUpUsingComparator_44 : decode cJ23_siftUpUsingComparator 44 = .ok (.iload_n 0, 1) := dk_26 (dk_at dksJ23_siftUpUsingComparator_1 23 rfl rfl)
theorem dJ23_siftUpUsingComparator_45 : decode cJ23_siftUpUsingComparator 45 = .ok (.aload_n 1, 1) := dk_43 (dk_at dksJ23_siftUpUsingComparator_2 0 rfl rfl)
theorem dJ23_siftUpUsingComparator_46 : decode cJ23_siftUpUsingComparator 46 = .ok (.aastore, 1) := dk_83 (dk_at dksJ23_siftUpUsingComparator_2 1 rfl rfl)
theorem dJ23_siftUpUsingComparator_47 : decode cJ23_siftUpUsingComparator 47 = .ok (.return_, 1) := dk_177 (dk_at dksJ23_siftUpUsingComparator_2 2 rfl rfl)
/-- java/util/PriorityQueue.siftUpUsingComparator(ILjava/lang/Object;[Ljava/lang/Object;Ljava/util/Comparator;)V -/
def zb468 (G : zPg) (C : zO) (args : List Value) (Q : zQ) (Y : zY) (σ : zS) : Prop := ∃ (x1 : Int32) (x2 : Option Nat) (x3 : Option Nat) (x4 : Option Nat), args = [.int x1, va_rf x2, va_rf x3, va_rf x4] ∧ (∃ n, zIt (fun _ _ => False) (fun rec3 (p1 : Int32) (s2 : zS) => zJ (fun  (s4 : zS) => zsR s4 G.1 4 [0, 1, 2, 3, 4, 5, 6, 7, 8, 9, 10, 11, 12, 13, 14, 15, 16, 17, 18, 19, 20, 21, 22, 23, 24, 25, 26, 27, 28, 29, 30] x3 p1 x2 (fun s14 => Q none s14)) (fun (j5 : zS → Prop) => ((p1 ≤ 0) → j5 s2) ∧ ((¬ p1 ≤ 0) → (∀ v17 : Int32, v17 = (((p1 - (1 : Int32)).toUInt32 >>> ((1 : Int32).toUInt32 &&& Int32.toUInt32 31)).toInt32) → zaR s2 4 x3 v17 (fun v25 => zrc s2 x4 19 (fun a29 => zcl C 474 [.ref a29, va_rf x2, va_rf v25] Y s2 (zqI (fun v27 s28 => ((v27 < 0) → zsR s28 G.1 4 [0, 1, 2, 3, 4, 5, 6, 7, 8, 9, 10, 11, 12, 13, 14, 15, 16, 17, 18, 19, 20, 21, 22, 23, 24, 25, 26, 27, 28, 29, 30] x3 p1 v25 (fun s42 => rec3 v17 s42)) ∧ ((¬ v27 < 0) → j5 s28))))))))) n x1 σ)
set_option maxHeartbeats 4000000 in
theorem wk468 {l : Launch} {g : zG} {d : Nat} {C : zO} (hG : zGk g) (hC : zSound l g d C) {args : List Value} {Q : zQ} {Y : zY} {σ : zS} (hw : zb468 (zpg g) C args Q Y σ) : zMet l g (d + 1) (⟨"java/util/PriorityQueue", "siftUpUsingComparator", "(ILjava/lang/Object;[Ljava/lang/Object;Ljava/util/Comparator;)V"⟩, Cond.code ⟨"java/util/PriorityQueue", "siftUpUsingComparator", "(ILjava/lang/Object;[Ljava/lang/Object;Ljava/util/Comparator;)V"⟩ prog_66_method_29_code 6 (Option.none : Option FieldType)) args σ Q Y := by
  obtain ⟨x1, x2, x3, x4, rfl, hw⟩ := hw
  refine zof hG (by decide +kernel) [false, false, false, false] ⟨rfl, (zc_rf _), (zc_rf _), (zc_rf _), trivial⟩ (Nat.le_of_ble_eq_true rfl) (ls := [some (.int x1), some (va_rf x2), some (va_rf x3), some (va_rf x4), none, none]) rfl ?_
  intro X hX hR hTb hd1 hd2 hl hg hnm
  subst hl
  subst hg
  have hd : zDep X d := ⟨hd1, hd2⟩
  obtain ⟨n44, hw⟩ := hw
  refine zIt_w (P := fun (j : Int32 → zS → Prop) => ∀ (p1 : Int32) (s2 : zS), j p1 s2 → zW X s2 0 [some (.int p1), some (va_rf x2), some (va_rf x3), some (va_rf x4), none, none] []) (fun _ _ h => h.elim) (fun rec3 hrec3 p1 s2 hw => ?_) n44 _ _ hw
  refine z_iload_n hX dJ23_siftUpUsingComparator_0 rfl (i := 0) rfl ?_
  refine zJ_w (P := fun (j : zS → Prop) => ∀  (s4 : zS), j  s4 → zW X s4 43 [some (.int p1), some (va_rf x2), some (va_rf x3), none, none, none] []) hw (fun  s4 hw => ?_) (fun j5 hj5 hw => ?_)
  · refine z_aload_n hX dJ23_siftUpUsingComparator_43 rfl (i := 2) rfl ?_
    refine z_iload_n hX dJ23_siftUpUsingComparator_44 rfl (i := 0) rfl ?_
    refine z_aload_n hX dJ23_siftUpUsingComparator_45 rfl (i := 1) rfl ?_
    obtain ⟨a6, n7, f8, r9, g10, m11, i12, c13, hw⟩ := hw
    refine z_aastM hX 4 dJ23_siftUpUsingComparator_46 rfl rfl (zfa1 ⟨_, rfl, Or.inr q3187⟩ (zfa1 ⟨_, rfl, Or.inr q3188⟩ (zfa1 ⟨_, rfl, Or.inr q3189⟩ (zfa1 ⟨_, rfl, Or.inr q3190⟩ (zfa1 ⟨_, rfl, Or.inr q3191⟩ (zfa1 ⟨_, rfl, Or.inr q3217⟩ (zfa1 ⟨_, rfl, Or.inr q3192⟩ (zfa1 ⟨_, rfl, Or.inr q3193⟩ (zfa1 ⟨_, rfl, Or.inr q3194⟩ (zfa1 ⟨_, rfl, Or.inr q3186⟩ (zfa1 ⟨_, rfl, Or.inr q3201⟩ (zfa1 ⟨_, rfl, Or.inr q3196⟩ (zfa1 ⟨_, rfl, Or.inr q3197⟩ (zfa1 ⟨_, rfl, Or.inr q3198⟩ (zfa1 ⟨_, rfl, Or.inr q3199⟩ (zfa1 ⟨_, rfl, Or.inr q3200⟩ (zfa1 ⟨_, rfl, Or.inr q3202⟩ (zfa1 ⟨_, rfl, Or.inr q3203⟩ (zfa1 ⟨_, rfl, Or.inr q3204⟩ (zfa1 ⟨_, rfl, Or.inr q3205⟩ (zfa1 ⟨_, rfl, Or.inr q3206⟩ (zfa1 ⟨_, rfl, Or.inr q3208⟩ (zfa1 ⟨_, rfl, Or.inr q3209⟩ (zfa1 ⟨_, rfl, Or.inr q3184⟩ (zfa1 ⟨_, rfl, Or.inr q3210⟩ (zfa1 ⟨_, rfl, Or.inr q3211⟩ (zfa1 ⟨_, rfl, Or.inr q3212⟩ (zfa1 ⟨_, rfl, Or.inr q3213⟩ (zfa1 ⟨_, rfl, Or.inr q3215⟩ (zfa1 ⟨_, rfl, Or.inr q3216⟩ (zfa1 ⟨_, rfl, Or.inl rfl⟩ (zfa0)))))))))))))))))))))))))))))))) r9 g10 m11 i12 c13 (z_nm (fun s14 e15 => ?_))
    have hw := hw s14 e15
    exact z_return hX hR dJ23_siftUpUsingComparator_47 hw
  · refine z_if_le hX dJ23_siftUpUsingComparator_1 (tgt := 43) rfl (fun c16 => ?_) (fun c16 => ?_)
    · have hw := hw.1 c16
      refine z_sub (ls' := [some (.int p1), some (va_rf x2), some (va_rf x3), none, none, none]) (zsS (zsS (zsS (zsN (zsN (zsN (zs0))))))) ?_
      exact hj5  _ hw
    · have hw := hw.2 c16
      refine z_iload_n hX dJ23_siftUpUsingComparator_4 rfl (i := 0) rfl ?_
      refine z_iconst hX (v := (1 : Int32)) dJ23_siftUpUsingComparator_5 (by decide) ?_
      refine z_isub hX dJ23_siftUpUsingComparator_6 ?_
      refine z_iconst hX (v := (1 : Int32)) dJ23_siftUpUsingComparator_7 (by decide) ?_
      refine z_iushr hX dJ23_siftUpUsingComparator_8 ?_
      refine z_topi (fun v17 e18 => ?_)
      have hw := hw v17 e18
      refine z_istore hX dJ23_siftUpUsingComparator_9 (i := 4) (Nat.le_of_ble_eq_true rfl) (zc_rf _) (ls2 := [some (.int p1), some (va_rf x2), some (va_rf x3), some (va_rf x4), some (.int v17), none]) rfl ?_
      refine z_aload_n hX dJ23_siftUpUsingComparator_11 rfl (i := 2) rfl ?_
      refine z_iload hX dJ23_siftUpUsingComparator_12 (i := 4) rfl ?_
      obtain ⟨a19, n20, f21, r22, m23, i24, hw⟩ := hw
      refine z_aald hX 4 dJ23_siftUpUsingComparator_14 rfl r22 m23 i24 ?_
      revert hw
      generalize f21 (Int32.toNatClampNeg v17) = v25
      intro hw
      refine z_astore hX dJ23_siftUpUsingComparator_15 (i := 5) (Nat.le_of_ble_eq_true rfl) rfl (ls2 := [some (.int p1), some (va_rf x2), some (va_rf x3), some (va_rf x4), some (.int v17), some (va_rf v25)]) rfl ?_
      refine z_aload_n hX dJ23_siftUpUsingComparator_17 rfl (i := 3) rfl ?_
      refine z_aload_n hX dJ23_siftUpUsingComparator_18 rfl (i := 1) rfl ?_
      refine z_aload hX dJ23_siftUpUsingComparator_19 (i := 5) rfl ?_
      obtain ⟨a29, f30, r31, m32, hw⟩ := hw
      refine z_invF hX hd r31 (ci := 19) rfl rfl m32 dJ23_siftUpUsingComparator_21 (hC 474 _ zm474 _ _ _ _ hw) q1773 q1777 q1779 q1775 q1774 q1780 q1778 q1776 (by decide) q1781 q170 zn474 rfl (Nat.le_of_ble_eq_true rfl) (st := []) rfl (zcs8 (Nat.le_of_ble_eq_true rfl)) rfl (zkI (fun v27 s28 hw => ?_)) (zout hX hR hTb)
      refine z_if_lt hX dJ23_siftUpUsingComparator_26 (tgt := 32) rfl (fun c33 => ?_) (fun c33 => ?_)
      · have hw := hw.1 c33
        refine z_aload_n hX dJ23_siftUpUsingComparator_32 rfl (i := 2) rfl ?_
        refine z_iload_n hX dJ23_siftUpUsingComparator_33 rfl (i := 0) rfl ?_
        refine z_aload hX dJ23_siftUpUsingComparator_34 (i := 5) rfl ?_
        obtain ⟨a34, n35, f36, r37, g38, m39, i40, c41, hw⟩ := hw
        refine z_aastM hX 4 dJ23_siftUpUsingComparator_36 rfl rfl (zfa1 ⟨_, rfl, Or.inr q3187⟩ (zfa1 ⟨_, rfl, Or.inr q3188⟩ (zfa1 ⟨_, rfl, Or.inr q3189⟩ (zfa1 ⟨_, rfl, Or.inr q3190⟩ (zfa1 ⟨_, rfl, Or.inr q3191⟩ (zfa1 ⟨_, rfl, Or.inr q3217⟩ (zfa1 ⟨_, rfl, Or.inr q3192⟩ (zfa1 ⟨_, rfl, Or.inr q3193⟩ (zfa1 ⟨_, rfl, Or.inr q3194⟩ (zfa1 ⟨_, rfl, Or.inr q3186⟩ (zfa1 ⟨_, rfl, Or.inr q3201⟩ (zfa1 ⟨_, rfl, Or.inr q3196⟩ (zfa1 ⟨_, rfl, Or.inr q3197⟩ (zfa1 ⟨_, rfl, Or.inr q3198⟩ (zfa1 ⟨_, rfl, Or.inr q3199⟩ (zfa1 ⟨_, rfl, Or.inr q3200⟩ (zfa1 ⟨_, rfl, Or.inr q3202⟩ (zfa1 ⟨_, rfl, Or.inr q3203⟩ (zfa1 ⟨_, rfl, Or.inr q3204⟩ (zfa1 ⟨_, rfl, Or.inr q3205⟩ (zfa1 ⟨_, rfl, Or.inr q3206⟩ (zfa1 ⟨_, rfl, Or.inr q3208⟩ (zfa1 ⟨_, rfl, Or.inr q3209⟩ (zfa1 ⟨_, rfl, Or.inr q3184⟩ (zfa1 ⟨_, rfl, Or.inr q3210⟩ (zfa1 ⟨_, rfl, Or.inr q3211⟩ (zfa1 ⟨_, rfl, Or.inr q3212⟩ (zfa1 ⟨_, rfl, Or.inr q3213⟩ (zfa1 ⟨_, rfl, Or.inr q3215⟩ (zfa1 ⟨_, rfl, Or.inr q3216⟩ (zfa1 ⟨_, rfl, Or.inl rfl⟩ (zfa0)))))))))))))))))))))))))))))))) r37 g38 m39 i40 c41 (z_nm (fun s42 e43 => ?_))
        have hw := hw s42 e43
        refine z_iload hX dJ23_siftUpUsingComparator_37 (i := 4) rfl ?_
        refine z_istore_n hX dJ23_siftUpUsingComparator_39 rfl (i := 0) (Nat.le_of_ble_eq_true rfl) trivial (ls2 := [some (.int v17), some (va_rf x2), some (va_rf x3), some (va_rf x4), some (.int v17), some (va_rf v25)]) rfl ?_
        refine z_goto hX dJ23_siftUpUsingComparator_40 (tgt := 0) rfl ?_
        refine z_sub (ls' := [some (.int v17), some (va_rf x2), some (va_rf x3), some (va_rf x4), none, none]) (zsS (zsS (zsS (zsS (zsN (zsN (zs0))))))) ?_
        exact hrec3 _ _ hw
      · have hw := hw.2 c33
        refine z_goto hX dJ23_siftUpUsingComparator_29 (tgt := 43) rfl ?_
        refine z_sub (ls' := [some (.int p1), some (va_rf x2), some (va_rf x3), none, none, none]) (zsS (zsS (zsS (zsN (zsN (zsN (zs0))))))) ?_
        exact hj5  _ hw
abbrev cJ23_siftUpComparable : ByteArray := prog_66_method_28_code
def yJ23_siftUpComparable : MethodName := ⟨RJ23, "siftUpComparable", "(ILjava/lang/Object;[Ljava/lang/Object;)V"⟩
def dkwJ23_siftUpComparable_2 : List UInt8 := [44, 26, 45, 83, 177]
abbrev dktJ23_siftUpComparable_2 : List UInt8 := dkwJ23_siftUpComparable_2 ++ []
def dkwJ23_siftUpComparable_1 : List UInt8 := [25, 5, 185, 0, 146, 2, 0, 155, 0, 6, 167, 0, 14, 44, 26, 25, 5, 83, 21, 4, 59, 167, 255, 217]
abbrev dktJ23_siftUpComparable_1 : List UInt8 := dkwJ23_siftUpComparable_1 ++ dktJ23_siftUpComparable_2
def dkwJ23_siftUpComparable_0 : List UInt8 := [43, 192, 0, 144, 78, 26, 158, 0, 41, 26, 4, 100, 4, 124, 54, 4, 44, 21, 4, 50, 58, 5, 45]
abbrev dktJ23_siftUpComparable_0 : List UInt8 := dkwJ23_siftUpComparable_0 ++ dktJ23_siftUpComparable_1
theorem dksJ23_siftUpComparable_0 : cJ23_siftUpComparable.data.toList.drop 0 = dktJ23_siftUpComparable_0 := by decide +kernel
theorem dksJ23_siftUpComparable_1 : cJ23_siftUpComparable.data.toList.drop 23 = dktJ23_siftUpComparable_1 := dk_seg dksJ23_siftUpComparable_0 23 rfl rfl
theorem dksJ23_siftUpComparable_2 : cJ23_siftUpComparable.data.toList.drop 47 = dktJ23_siftUpComparable_2 := dk_seg dksJ23_siftUpComparable_1 24 rfl rfl
theorem dJ23_siftUpComparable_0 : decode cJ23_siftUpComparable 0 = .ok (.aload_n 1, 1) := dk_43 (dk_at dksJ23_siftUpComparable_0 0 rfl rfl)
theorem dJ23_siftUpComparable_1 : decode cJ23_siftUpComparable 1 = .ok (.checkcast 144, 3) := dk_192 0 144 (dk_at dksJ23_siftUpComparable_0 1 rfl rfl)
theorem dJ23_siftUpComparable_4 : decode cJ23_siftUpComparable 4 = .ok (.astore_n 3, 1) := dk_78 (dk_at dksJ23_siftUpComparable_0 4 rfl rfl)
theorem dJ23_siftUpComparable_5 : decode cJ23_siftUpComparable 5 = .ok (.iload_n 0, 1) := dk_26 (dk_at dksJ23_siftUpComparable_0 5 rfl rfl)
theorem dJ23_siftUpComparable_6 : decode cJ23_siftUpComparable 6 = .ok (.ifCond .le 41, 3) := dk_158 0 41 (dk_at dksJ23_siftUpComparable_0 6 rfl rfl)
theorem dJ23_siftUpComparable_9 : decode cJ23_siftUpComparable 9 = .ok (.iload_n 0, 1) := dk_26 (dk_at dksJ23_siftUpComparable_0 9 rfl rfl)
theorem dJ23_siftUpComparable_10 : decode cJ23_siftUpComparable 10 = .ok (.iconst 1, 1) := dk_4 (dk_at dksJ23_siftUpComparable_0 10 rfl rfl)
theorem dJ23_siftUpComparable_11 : decode cJ23_siftUpComparable 11 = .ok (.isub, 1) := dk_100 (dk_at dksJ23_siftUpComparable_0 11 rfl rfl)
theorem dJ23_siftUpComparable_12 : decode cJ23_siftUpComparable 12 = .ok (.iconst 1, 1) := dk_4 (dk_at dksJ23_siftUpComparable_0 12 rfl rfl)
theorem dJ23_siftUpComparable_13 : decode cJ23_siftUpComparable 13 = .ok (.iushr, 1) := dk_124 (dk_at dksJ23_siftUpComparable_0 13 rfl rfl)
theorem dJ23_siftUpComparable_14 : decode cJ23_siftUpComparable 14 = .ok (.istore 4, 2) := dk_54 4 (dk_at dksJ23_siftUpComparable_0 14 rfl rfl)
theorem dJ23_siftUpComparable_16 : decode cJ23_siftUpComparable 16 = .ok (.aload_n 2, 1) := dk_44 (dk_at dksJ23_siftUpComparable_0 16 rfl rfl)
theorem dJ23_siftUpComparable_17 : decode cJ23_siftUpComparable 17 = .ok (.iload 4, 2) := dk_21 4 (dk_at dksJ23_siftUpComparable_0 17 rfl rfl)
theorem dJ23_siftUpComparable_19 : decode cJ23_siftUpComparable 19 = .ok (.aaload, 1) := dk_50 (dk_at dksJ23_siftUpComparable_0 19 rfl rfl)
theorem dJ23_siftUpComparable_20 : decode cJ23_siftUpComparable 20 = .ok (.astore 5, 2) := dk_58 5 (dk_at dksJ23_siftUpComparable_0 20 rfl rfl)
theorem dJ23_siftUpComparable_22 : decode cJ23_siftUpComparable 22 = .ok (.aload_n 3, 1) := dk_45 (dk_at dksJ23_siftUpComparable_0 22 rfl rfl)
theorem dJ23_siftUpComparable_23 : decode cJ23_siftUpComparable 23 = .ok (.aload 5, 2) := dk_25 5 (dk_at dksJ23_siftUpComparable_1 0 rfl rfl)
theorem dJ23_siftUpComparable_25 : decode cJ23_siftUpComparable 25 = .ok (.invokeinterface 146 2, 5) := by decide +kernel
theorem dJ23_siftUpComparable_30 : decode cJ23_siftUpComparable 30 = .ok (.ifCond .lt 6, 3) := dk_155 0 6 (dk_at dksJ23_siftUpComparable_1 7 rfl rfl)
theorem dJ23_siftUpComparable_33 : decode cJ23_siftUpComparable 33 = .ok (.goto 14, 3) := dk_167 0 14 (dk_at dksJ23_siftUpComparable_1 10 rfl rfl)
theorem dJ23_siftUpComparable_36 : decode cJ23_siftUpComparable 36 = .ok (.aload_n 2, 1) := dk_44 (dk_at dksJ23_siftUpComparable_1 13 rfl rfl)
theorem dJ23_siftUpComparable_37 : decode cJ23_siftUpComparable 37 = .ok (.iload_n 0, 1) := dk_26 (dk_at dksJ23_siftUpComparable_1 14 rfl rfl)
theorem dJ23_siftUpComparable_38 : decode cJ23_siftUpComparable 38 = .ok (.aload 5, 2) := dk_25 5 (dk_at dksJ23_siftUpComparable_1 15 rfl rfl)
theorem dJ23_siftUpComparable_40 : decode cJ23_siftUpComparable 40 = .ok (.aastore, 1) := dk_83 (dk_at dksJ23_siftUpComparable_1 17 rfl rfl)
theorem dJ23_siftUpComparable_41 : decode cJ23_siftUpComparable 41 = .ok (.iload 4, 2) := dk_21 4 (dk_at dksJ23_siftUpComparable_1 18 rfl rfl)
theorem dJ23_siftUpComparable_43 : decode cJ23_siftUpComparable 43 = .ok (.istore_n 0, 1) := dk_59 (dk_at dksJ23_siftUpComparable_1 20 rfl rfl)
theorem dJ23_siftUpComparable_44 : decode cJ23_siftUpComparable 44 = .ok (.goto (-39), 3) := dk_167 255 217 (dk_at dksJ23_siftUpComparable_1 21 rfl rfl)
theorem dJ23_siftUpComparable_47 : decode cJ23_siftUpComparable 47 = .ok (.aload_n 2, 1) := dk_44 (dk_at dksJ23_siftUpComparable_2 0 rfl rfl)
theorem dJ23_siftUpComparable_48 : decode cJ23_siftUpComparable 48 = .ok (.iload_n 0, 1) := dk_26 (dk_at dksJ23_siftUpComparable_2 1 rfl rfl)
theorem dJ23_siftUpComparable_49 : decode cJ23_siftUpComparable 49 = .ok (.aload_n 3, 1) := dk_45 (dk_at dksJ23_siftUpComparable_2 2 rfl rfl)
theorem dJ23_siftUpComparable_50 : decode cJ23_siftUpComparable 50 = .ok (.aastore, 1) := dk_83 (dk_at dksJ23_siftUpComparable_2 3 rfl rfl)
theorem dJ23_siftUpComparable_51 : decode cJ23_siftUpComparable 51 = .ok (.return_, 1) := dk_177 (dk_at dksJ23_siftUpComparable_2 4 rfl rfl)
/-- java/util/PriorityQueue.siftUpComparable(ILjava/lang/Object;[Ljava/lang/Object;)V -/
def zb469 (G : zPg) (C : zO) (args : List Value) (Q : zQ) (Y : zY) (σ : zS) : Prop := ∃ (x1 : Int32) (x2 : Option Nat) (x3 : Option Nat), args = [.int x1, va_rf x2, va_rf x3] ∧ ((zcst σ x2 [8, 9, 10] ∧ ((x1 ≤ 0) → zsR σ G.1 4 [0, 1, 2, 3, 4, 5, 6, 7, 8, 9, 10, 11, 12, 13, 14, 15, 16, 17, 18, 19, 20, 21, 22, 23, 24, 25, 26, 27, 28, 29, 30] x3 x1 x2 (fun s10 => Q none s10)) ∧ ((¬ x1 ≤ 0) → (∀ v12 : Int32, v12 = (((x1 - (1 : Int32)).toUInt32 >>> ((1 : Int32).toUInt32 &&& Int32.toUInt32 31)).toInt32) → zaR σ 4 x3 v12 (fun v20 => False)))))
set_option maxHeartbeats 4000000 in
theorem wk469 {l : Launch} {g : zG} {d : Nat} {C : zO} (hG : zGk g) (hC : zSound l g d C) {args : List Value} {Q : zQ} {Y : zY} {σ : zS} (hw : zb469 (zpg g) C args Q Y σ) : zMet l g (d + 1) (⟨"java/util/PriorityQueue", "siftUpComparable", "(ILjava/lang/Object;[Ljava/lang/Object;)V"⟩, Cond.code ⟨"java/util/PriorityQueue", "siftUpComparable", "(ILjava/lang/Object;[Ljava/lang/Object;)V"⟩ prog_66_method_28_code 6 (Option.none : Option FieldType)) args σ Q Y := by
  obtain ⟨x1, x2, x3, rfl, hw⟩ := hw
  refine zof hG (by decide +kernel) [false, false, false] ⟨rfl, (zc_rf _), (zc_rf _), trivial⟩ (Nat.le_of_ble_eq_true rfl) (ls := [some (.int x1), some (va_rf x2), some (va_rf x3), none, none, none]) rfl ?_
  intro X hX hR hTb hd1 hd2 hl hg hnm
  subst hl
  subst hg
  have hd : zDep X d := ⟨hd1, hd2⟩
  refine z_aload_n hX dJ23_siftUpComparable_0 rfl (i := 1) rfl ?_
  refine z_cast hX dJ23_siftUpComparable_1 q1793 (zfa1 ⟨_, rfl, Or.inr q1970⟩ (zfa1 ⟨_, rfl, Or.inr q1827⟩ (zfa1 ⟨_, rfl, Or.inr q1816⟩ (zfa0)))) hw.1 ?_
  have hw := hw.2
  refine z_astore_n hX dJ23_siftUpComparable_4 rfl (i := 3) (Nat.le_of_ble_eq_true rfl) (zc_rf _) (ls2 := [some (.int x1), some (va_rf x2), some (va_rf x3), some (va_rf x2), none, none]) rfl ?_
  refine z_iload_n hX dJ23_siftUpComparable_5 rfl (i := 0) rfl ?_
  refine z_if_le hX dJ23_siftUpComparable_6 (tgt := 47) rfl (fun c1 => ?_) (fun c1 => ?_)
  · have hw := hw.1 c1
    refine z_aload_n hX dJ23_siftUpComparable_47 rfl (i := 2) rfl ?_
    refine z_iload_n hX dJ23_siftUpComparable_48 rfl (i := 0) rfl ?_
    refine z_aload_n hX dJ23_siftUpComparable_49 rfl (i := 3) rfl ?_
    obtain ⟨a2, n3, f4, r5, g6, m7, i8, c9, hw⟩ := hw
    refine z_aastM hX 4 dJ23_siftUpComparable_50 rfl rfl (zfa1 ⟨_, rfl, Or.inr q3187⟩ (zfa1 ⟨_, rfl, Or.inr q3188⟩ (zfa1 ⟨_, rfl, Or.inr q3189⟩ (zfa1 ⟨_, rfl, Or.inr q3190⟩ (zfa1 ⟨_, rfl, Or.inr q3191⟩ (zfa1 ⟨_, rfl, Or.inr q3217⟩ (zfa1 ⟨_, rfl, Or.inr q3192⟩ (zfa1 ⟨_, rfl, Or.inr q3193⟩ (zfa1 ⟨_, rfl, Or.inr q3194⟩ (zfa1 ⟨_, rfl, Or.inr q3186⟩ (zfa1 ⟨_, rfl, Or.inr q3201⟩ (zfa1 ⟨_, rfl, Or.inr q3196⟩ (zfa1 ⟨_, rfl, Or.inr q3197⟩ (zfa1 ⟨_, rfl, Or.inr q3198⟩ (zfa1 ⟨_, rfl, Or.inr q3199⟩ (zfa1 ⟨_, rfl, Or.inr q3200⟩ (zfa1 ⟨_, rfl, Or.inr q3202⟩ (zfa1 ⟨_, rfl, Or.inr q3203⟩ (zfa1 ⟨_, rfl, Or.inr q3204⟩ (zfa1 ⟨_, rfl, Or.inr q3205⟩ (zfa1 ⟨_, rfl, Or.inr q3206⟩ (zfa1 ⟨_, rfl, Or.inr q3208⟩ (zfa1 ⟨_, rfl, Or.inr q3209⟩ (zfa1 ⟨_, rfl, Or.inr q3184⟩ (zfa1 ⟨_, rfl, Or.inr q3210⟩ (zfa1 ⟨_, rfl, Or.inr q3211⟩ (zfa1 ⟨_, rfl, Or.inr q3212⟩ (zfa1 ⟨_, rfl, Or.inr q3213⟩ (zfa1 ⟨_, rfl, Or.inr q3215⟩ (zfa1 ⟨_, rfl, Or.inr q3216⟩ (zfa1 ⟨_, rfl, Or.inl rfl⟩ (zfa0)))))))))))))))))))))))))))))))) r5 g6 m7 i8 c9 (z_nm (fun s10 e11 => ?_))
    have hw := hw s10 e11
    exact z_return hX hR dJ23_siftUpComparable_51 hw
  · have hw := hw.2 c1
    refine z_iload_n hX dJ23_siftUpComparable_9 rfl (i := 0) rfl ?_
    refine z_iconst hX (v := (1 : Int32)) dJ23_siftUpComparable_10 (by decide) ?_
    refine z_isub hX dJ23_siftUpComparable_11 ?_
    refine z_iconst hX (v := (1 : Int32)) dJ23_siftUpComparable_12 (by decide) ?_
    refine z_iushr hX dJ23_siftUpComparable_13 ?_
    refine z_topi (fun v12 e13 => ?_)
    have hw := hw v12 e13
    refine z_istore hX dJ23_siftUpComparable_14 (i := 4) (Nat.le_of_ble_eq_true rfl) (zc_rf _) (ls2 := [some (.int x1), some (va_rf x2), some (va_rf x3), some (va_rf x2), some (.int v12), none]) rfl ?_
    refine z_aload_n hX dJ23_siftUpComparable_16 rfl (i := 2) rfl ?_
    refine z_iload hX dJ23_siftUpComparable_17 (i := 4) rfl ?_
    obtain ⟨a14, n15, f16, r17, m18, i19, hw⟩ := hw
    refine z_aald hX 4 dJ23_siftUpComparable_19 rfl r17 m18 i19 ?_
    revert hw
    generalize f16 (Int32.toNatClampNeg v12) = v20
    intro hw
    refine z_astore hX dJ23_siftUpComparable_20 (i := 5) (Nat.le_of_ble_eq_true rfl) rfl (ls2 := [some (.int x1), some (va_rf x2), some (va_rf x3), some (va_rf x2), some (.int v12), some (va_rf v20)]) rfl ?_
    refine z_aload_n hX dJ23_siftUpComparable_22 rfl (i := 3) rfl ?_
    refine z_aload hX dJ23_siftUpComparable_23 (i := 5) rfl ?_
    exact hw.elim
abbrev cJ23_poll : ByteArray := prog_66_method_25_code
def yJ23_poll : MethodName := ⟨RJ23, "poll", "()Ljava/lang/Object;"⟩
def dkwJ23_poll_3 : List UInt8 := [43, 29, 25, 5, 184, 0, 129, 44, 176]
abbrev dktJ23_poll_3 : List UInt8 := dkwJ23_poll_3 ++ []
def dkwJ23_poll_2 : List UInt8 := [42, 180, 0, 21, 89, 58, 5, 199, 0, 14, 3, 25, 4, 43, 29, 184, 0, 125, 167, 0, 13, 3, 25, 4]
abbrev dktJ23_poll_2 : List UInt8 := dkwJ23_poll_2 ++ dktJ23_poll_3
def dkwJ23_poll_1 : List UInt8 := [42, 89, 180, 0, 58, 4, 100, 90, 181, 0, 58, 89, 62, 50, 58, 4, 43, 29, 1, 83, 29, 158, 0, 34]
abbrev dktJ23_poll_1 : List UInt8 := dkwJ23_poll_1 ++ dktJ23_poll_2
def dkwJ23_poll_0 : List UInt8 := [42, 180, 0, 17, 89, 76, 3, 50, 89, 77, 198, 0, 69, 42, 89, 180, 0, 93, 4, 96, 181, 0, 93, 43]
abbrev dktJ23_poll_0 : List UInt8 := dkwJ23_poll_0 ++ dktJ23_poll_1
theorem dksJ23_poll_0 : cJ23_poll.data.toList.drop 0 = dktJ23_poll_0 := by decide +kernel
theorem dksJ23_poll_1 : cJ23_poll.data.toList.drop 24 = dktJ23_poll_1 := dk_seg dksJ23_poll_0 24 rfl rfl
theorem dksJ23_poll_2 : cJ23_poll.data.toList.drop 48 = dktJ23_poll_2 := dk_seg dksJ23_poll_1 24 rfl rfl
theorem dksJ23_poll_3 : cJ23_poll.data.toList.drop 72 = dktJ23_poll_3 := dk_seg dksJ23_poll_2 24 rfl rfl
theorem dJ23_poll_0 : decode cJ23_poll 0 = .ok (.aload_n 0, 1) := dk_42 (dk_at dksJ23_poll_0 0 rfl rfl)
theorem dJ23_poll_1 : decode cJ23_poll 1 = .ok (.getfield 17, 3) := dk_180 0 17 (dk_at dksJ23_poll_0 1 rfl rfl)
theorem dJ23_poll_4 : decode cJ23_poll 4 = .ok (.dup, 1) := dk_89 (dk_at dksJ23_poll_0 4 rfl rfl)
theorem dJ23_poll_5 : decode cJ23_poll 5 = .ok (.astore_n 1, 1) := dk_76 (dk_at dksJ23_poll_0 5 rfl rfl)
theorem dJ23_poll_6 : decode cJ23_poll 6 = .ok (.iconst 0, 1) := dk_3 (dk_at dksJ23_poll_0 6 rfl rfl)
theorem dJ23_poll_7 : decode cJ23_poll 7 = .ok (.aaload, 1) := dk_50 (dk_at dksJ23_poll_0 7 rfl rfl)
theorem dJ23_poll_8 : decode cJ23_poll 8 = .ok (.dup, 1) := dk_89 (dk_at dksJ23_poll_0 8 rfl rfl)
theorem dJ23_poll_9 : decode cJ23_poll 9 = .ok (.astore_n 2, 1) := dk_77 (dk_at dksJ23_poll_0 9 rfl rfl)
theorem dJ23_poll_10 : decode cJ23_poll 10 = .ok (.ifnull 69, 3) := dk_198 0 69 (dk_at dksJ23_poll_0 10 rfl rfl)
theorem dJ23_poll_13 : decode cJ23_poll 13 = .ok (.aload_n 0, 1) := dk_42 (dk_at dksJ23_poll_0 13 rfl rfl)
theorem dJ23_poll_14 : decode cJ23_poll 14 = .ok (.dup, 1) := dk_89 (dk_at dksJ23_poll_0 14 rfl rfl)
theorem dJ23_poll_15 : decode cJ23_poll 15 = .ok (.getfield 93, 3) := dk_180 0 93 (dk_at dksJ23_poll_0 15 rfl rfl)
theorem dJ23_poll_18 : decode cJ23_poll 18 = .ok (.iconst 1, 1) := dk_4 (dk_at dksJ23_poll_0 18 rfl rfl)
theorem dJ23_poll_19 : decode cJ23_poll 19 = .ok (.iadd, 1) := dk_96 (dk_at dksJ23_poll_0 19 rfl rfl)
theorem dJ23_poll_20 : decode cJ23_poll 20 = .ok (.putfield 93, 3) := dk_181 0 93 (dk_at dksJ23_poll_0 20 rfl rfl)
theorem dJ23_poll_23 : decode cJ23_poll 23 = .ok (.aload_n 1, 1) := dk_43 (dk_at dksJ23_poll_0 23 rfl rfl)
theorem dJ23_poll_24 : decode cJ23_poll 24 = .ok (.aload_n 0, 1) := dk_42 (dk_at dksJ23_poll_1 0 rfl rfl)
theorem dJ23_poll_25 : decode cJ23_poll 25 = .ok (.dup, 1) := dk_89 (dk_at dksJ23_poll_1 1 rfl rfl)
theorem dJ23_poll_26 : decode cJ23_poll 26 = .ok (.getfield 58, 3) := dk_180 0 58 (dk_at dksJ23_poll_1 2 rfl rfl)
theorem dJ23_poll_29 : decode cJ23_poll 29 = .ok (.iconst 1, 1) := dk_4 (dk_at dksJ23_poll_1 5 rfl rfl)
theorem dJ23_poll_30 : decode cJ23_poll 30 = .ok (.isub, 1) := dk_100 (dk_at dksJ23_poll_1 6 rfl rfl)
theorem dJ23_poll_31 : decode cJ23_poll 31 = .ok (.dup_x1, 1) := dk_90 (dk_at dksJ23_poll_1 7 rfl rfl)
theorem dJ23_poll_32 : decode cJ23_poll 32 = .ok (.putfield 58, 3) := dk_181 0 58 (dk_at dksJ23_poll_1 8 rfl rfl)
theorem dJ23_poll_35 : decode cJ23_poll 35 = .ok (.dup, 1) := dk_89 (dk_at dksJ23_poll_1 11 rfl rfl)
theorem dJ23_poll_36 : decode cJ23_poll 36 = .ok (.istore_n 3, 1) := dk_62 (dk_at dksJ23_poll_1 12 rfl rfl)
theorem dJ23_poll_37 : decode cJ23_poll 37 = .ok (.aaload, 1) := dk_50 (dk_at dksJ23_poll_1 13 rfl rfl)
theorem dJ23_poll_38 : decode cJ23_poll 38 = .ok (.astore 4, 2) := dk_58 4 (dk_at dksJ23_poll_1 14 rfl rfl)
theorem dJ23_poll_40 : decode cJ23_poll 40 = .ok (.aload_n 1, 1) := dk_43 (dk_at dksJ23_poll_1 16 rfl rfl)
theorem dJ23_poll_41 : decode cJ23_poll 41 = .ok (.iload_n 3, 1) := dk_29 (dk_at dksJ23_poll_1 17 rfl rfl)
theorem dJ23_poll_42 : decode cJ23_poll 42 = .ok (.aconst_null, 1) := dk_1 (dk_at dksJ23_poll_1 18 rfl rfl)
theorem dJ23_poll_43 : decode cJ23_poll 43 = .ok (.aastore, 1) := dk_83 (dk_at dksJ23_poll_1 19 rfl rfl)
theorem dJ23_poll_44 : decode cJ23_poll 44 = .ok (.iload_n 3, 1) := dk_29 (dk_at dksJ23_poll_1 20 rfl rfl)
theorem dJ23_poll_45 : decode cJ23_poll 45 = .ok (.ifCond .le 34, 3) := dk_158 0 34 (dk_at dksJ23_poll_1 21 rfl rfl)
theorem dJ23_poll_48 : decode cJ23_poll 48 = .ok (.aload_n 0, 1) := dk_42 (dk_at dksJ23_poll_2 0 rfl rfl)
theorem dJ23_poll_49 : decode cJ23_poll 49 = .ok (.getfield 21, 3) := dk_180 0 21 (dk_at dksJ23_poll_2 1 rfl rfl)
theorem dJ23_poll_52 : decode cJ23_poll 52 = .ok (.dup, 1) := dk_89 (dk_at dksJ23_poll_2 4 rfl rfl)
theorem dJ23_poll_53 : decode cJ23_poll 53 = .ok (.astore 5, 2) := dk_58 5 (dk_at dksJ23_poll_2 5 rfl rfl)
theorem dJ23_poll_55 : decode cJ23_poll 55 = .ok (.ifnonnull 14, 3) := dk_199 0 14 (dk_at dksJ23_poll_2 7 rfl rfl)
theorem dJ23_poll_58 : decode cJ23_poll 58 = .ok (.iconst 0, 1) := dk_3 (dk_at dksJ23_poll_2 10 rfl rfl)
theorem dJ23_poll_59 : decode cJ23_poll 59 = .ok (.aload 4, 2) := dk_25 4 (dk_at dksJ23_poll_2 11 rfl rfl)
theorem dJ23_poll_61 : decode cJ23_poll 61 = .ok (.aload_n 1, 1) := dk_43 (dk_at dksJ23_poll_2 13 rfl rfl)
theorem dJ23_poll_62 : decode cJ23_poll 62 = .ok (.iload_n 3, 1) := dk_29 (dk_at dksJ23_poll_2 14 rfl rfl)
theorem dJ23_poll_63 : decode cJ23_poll 63 = .ok (.invokestatic 125, 3) := dk_184 0 125 (dk_at dksJ23_poll_2 15 rfl rfl)
theorem dJ23_poll_66 : decode cJ23_poll 66 = .ok (.goto 13, 3) := dk_167 0 13 (dk_at dksJ23_poll_2 18 rfl rfl)
theorem dJ23_poll_69 : decode cJ23_poll 69 = .ok (.iconst 0, 1) := dk_3 (dk_at dksJ23_poll_2 21 rfl rfl)
theorem dJ23_poll_70 : decode cJ23_poll 70 = .ok (.aload 4, 2) := dk_25 4 (dk_at dksJ23_poll_2 22 rfl rfl)
theorem dJ23_poll_72 : decode cJ23_poll 72 = .ok (.aload_n 1, 1) := dk_43 (dk_at dksJ23_poll_3 0 rfl rfl)
theorem dJ23_poll_73 : decode cJ23_poll 73 = .ok (.iload_n 3, 1) := dk_29 (dk_at dksJ23_poll_3 1 rfl rfl)
theorem dJ23_poll_74 : decode cJ23_poll 74 = .ok (.aload 5, 2) := dk_25 5 (dk_at dksJ23_poll_3 2 rfl rfl)
theorem dJ23_poll_76 : decode cJ23_poll 76 = .ok (.invokestatic 129, 3) := dk_184 0 129 (dk_at dksJ23_poll_3 4 rfl rfl)
theorem dJ23_poll_79 : decode cJ23_poll 79 = .ok (.aload_n 2, 1) := dk_44 (dk_at dksJ23_poll_3 7 rfl rfl)
theorem dJ23_poll_80 : decode cJ23_poll 80 = .ok (.areturn, 1) := dk_176 (dk_at dksJ23_poll_3 8 rfl rfl)
/-- java/util/PriorityQueue.poll()Ljava/lang/Object; -/
def zb470 (G : zPg) (C : zO) (args : List Value) (Q : zQ) (Y : zY) (σ : zS) : Prop := ∃ (a0 : Nat), args = [.ref a0] ∧ (zgR σ (some a0) 18 0 (fun v1 => zaR σ 4 v1 (0 : Int32) (fun v13 => zJ (fun  (s15 : zS) => Q (some (va_rf v13)) s15) (fun (j16 : zS → Prop) => ((v13 = none) → j16 σ) ∧ ((¬ v13 = none) → zgI σ (some a0) 18 3 (fun v18 => zput σ G.1 (some a0) 18 3 (.int (v18 + (1 : Int32))) (fun s24 => zgI s24 (some a0) 18 1 (fun v32 => zput s24 G.1 (some a0) 18 1 (.int (v32 - (1 : Int32))) (fun s38 => zaR s38 4 v1 (v32 - (1 : Int32)) (fun v52 => zsR s38 G.1 4 [0, 1, 2, 3, 4, 5, 6, 7, 8, 9, 10, 11, 12, 13, 14, 15, 16, 17, 18, 19, 20, 21, 22, 23, 24, 25, 26, 27, 28, 29, 30] v1 (v32 - (1 : Int32)) none (fun s62 => (((v32 - (1 : Int32)) ≤ 0) → j16 s62) ∧ ((¬ (v32 - (1 : Int32)) ≤ 0) → zgR s62 (some a0) 18 2 (fun v65 => ((¬ v65 = none) → zcl C 472 [.int (0 : Int32), va_rf v52, va_rf v1, .int (v32 - (1 : Int32)), va_rf v65] Y s62 (zqV (fun s73 => j16 s73))) ∧ ((v65 = none) → zcl C 471 [.int (0 : Int32), va_rf v52, va_rf v1, .int (v32 - (1 : Int32))] Y s62 (zqV (fun s76 => j16 s76))))))))))))))))
set_option maxHeartbeats 4000000 in
theorem wk470 {l : Launch} {g : zG} {d : Nat} {C : zO} (hG : zGk g) (hC : zSound l g d C) {args : List Value} {Q : zQ} {Y : zY} {σ : zS} (hw : zb470 (zpg g) C args Q Y σ) : zMet l g (d + 1) (⟨"java/util/PriorityQueue", "poll", "()Ljava/lang/Object;"⟩, Cond.code ⟨"java/util/PriorityQueue", "poll", "()Ljava/lang/Object;"⟩ prog_66_method_25_code 6 (Option.some (FieldType.object "java/lang/Object"))) args σ Q Y := by
  obtain ⟨a0, rfl, hw⟩ := hw
  refine zof hG (by decide +kernel) [false] ⟨rfl, trivial⟩ (Nat.le_of_ble_eq_true rfl) (ls := [some (va_rf (some a0)), none, none, none, none, none]) rfl ?_
  intro X hX hR hTb hd1 hd2 hl hg hnm
  subst hl
  subst hg
  have hd : zDep X d := ⟨hd1, hd2⟩
  refine z_aload_n hX dJ23_poll_0 rfl (i := 0) rfl ?_
  obtain ⟨a2, f3, v1, r4, m5, e6, hw⟩ := hw
  refine z_get hX zc18 (k := 0) dJ23_poll_1 (Nat.le_of_ble_eq_true rfl) (zlk hX q1721) r4 m5 e6 ?_
  refine z_dup hX dJ23_poll_4 (zc_rf _) ?_
  refine z_astore_n hX dJ23_poll_5 rfl (i := 1) (Nat.le_of_ble_eq_true rfl) (zc_rf _) (ls2 := [some (va_rf (some a0)), some (va_rf v1), none, none, none, none]) rfl ?_
  refine z_iconst hX (v := (0 : Int32)) dJ23_poll_6 (by decide) ?_
  obtain ⟨a7, n8, f9, r10, m11, i12, hw⟩ := hw
  refine z_aald hX 4 dJ23_poll_7 rfl r10 m11 i12 ?_
  revert hw
  generalize f9 (Int32.toNatClampNeg (0 : Int32)) = v13
  intro hw
  refine z_dup hX dJ23_poll_8 (zc_rf _) ?_
  refine z_astore_n hX dJ23_poll_9 rfl (i := 2) (Nat.le_of_ble_eq_true rfl) (zc_rf _) (ls2 := [some (va_rf (some a0)), some (va_rf v1), some (va_rf v13), none, none, none]) rfl ?_
  refine zJ_w (P := fun (j : zS → Prop) => ∀  (s15 : zS), j  s15 → zW X s15 79 [none, none, some (va_rf v13), none, none, none] []) hw (fun  s15 hw => ?_) (fun j16 hj16 hw => ?_)
  · refine z_aload_n hX dJ23_poll_79 rfl (i := 2) rfl ?_
    exact z_areturn hX hR dJ23_poll_80 (Or.inl ⟨_, rfl⟩) hw
  · refine z_ifnull hX dJ23_poll_10 (tgt := 79) rfl (fun c17 => ?_) (fun c17 => ?_)
    · have hw := hw.1 c17
      refine z_sub (ls' := [none, none, some (va_rf v13), none, none, none]) (zsN (zsN (zsS (zsN (zsN (zsN (zs0))))))) ?_
      exact hj16  _ hw
    · have hw := hw.2 c17
      refine z_aload_n hX dJ23_poll_13 rfl (i := 0) rfl ?_
      refine z_dup hX dJ23_poll_14 (zc_rf _) ?_
      obtain ⟨a19, f20, v18, r21, m22, e23, hw⟩ := hw
      refine z_get hX zc18 (k := 3) dJ23_poll_15 (Nat.le_of_ble_eq_true rfl) (zlk hX q1724) r21 m22 e23 ?_
      refine z_iconst hX (v := (1 : Int32)) dJ23_poll_18 (by decide) ?_
      refine z_iadd hX dJ23_poll_19 ?_
      obtain ⟨a26, f27, r28, g29, m30, l31, hw⟩ := hw
      refine z_put hX zc18 (k := 3) dJ23_poll_20 (Nat.le_of_ble_eq_true rfl) (zlk hX q1724) rfl rfl rfl r28 g29 m30 l31 (z_nm (fun s24 e25 => ?_))
      have hw := hw s24 e25
      refine z_aload_n hX dJ23_poll_23 rfl (i := 1) rfl ?_
      refine z_aload_n hX dJ23_poll_24 rfl (i := 0) rfl ?_
      refine z_dup hX dJ23_poll_25 (zc_rf _) ?_
      obtain ⟨a33, f34, v32, r35, m36, e37, hw⟩ := hw
      refine z_get hX zc18 (k := 1) dJ23_poll_26 (Nat.le_of_ble_eq_true rfl) (zlk hX q1722) r35 m36 e37 ?_
      refine z_iconst hX (v := (1 : Int32)) dJ23_poll_29 (by decide) ?_
      refine z_isub hX dJ23_poll_30 ?_
      refine z_dup_x1 hX dJ23_poll_31 rfl (zc_rf _) ?_
      obtain ⟨a40, f41, r42, g43, m44, l45, hw⟩ := hw
      refine z_put hX zc18 (k := 1) dJ23_poll_32 (Nat.le_of_ble_eq_true rfl) (zlk hX q1722) rfl rfl rfl r42 g43 m44 l45 (z_nm (fun s38 e39 => ?_))
      have hw := hw s38 e39
      refine z_dup hX dJ23_poll_35 rfl ?_
      refine z_istore_n hX dJ23_poll_36 rfl (i := 3) (Nat.le_of_ble_eq_true rfl) (zc_rf _) (ls2 := [some (va_rf (some a0)), some (va_rf v1), some (va_rf v13), some (.int (v32 - (1 : Int32))), none, none]) rfl ?_
      obtain ⟨a46, n47, f48, r49, m50, i51, hw⟩ := hw
      refine z_aald hX 4 dJ23_poll_37 rfl r49 m50 i51 ?_
      revert hw
      generalize f48 (Int32.toNatClampNeg (v32 - (1 : Int32))) = v52
      intro hw
      refine z_astore hX dJ23_poll_38 (i := 4) (Nat.le_of_ble_eq_true rfl) rfl (ls2 := [some (va_rf (some a0)), some (va_rf v1), some (va_rf v13), some (.int (v32 - (1 : Int32))), some (va_rf v52), none]) rfl ?_
      refine z_aload_n hX dJ23_poll_40 rfl (i := 1) rfl ?_
      refine z_iload_n hX dJ23_poll_41 rfl (i := 3) rfl ?_
      refine z_null hX dJ23_poll_42 ?_
      obtain ⟨a54, n55, f56, r57, g58, m59, i60, c61, hw⟩ := hw
      refine z_aastM hX 4 dJ23_poll_43 rfl rfl (zfa1 ⟨_, rfl, Or.inr q3187⟩ (zfa1 ⟨_, rfl, Or.inr q3188⟩ (zfa1 ⟨_, rfl, Or.inr q3189⟩ (zfa1 ⟨_, rfl, Or.inr q3190⟩ (zfa1 ⟨_, rfl, Or.inr q3191⟩ (zfa1 ⟨_, rfl, Or.inr q3217⟩ (zfa1 ⟨_, rfl, Or.inr q3192⟩ (zfa1 ⟨_, rfl, Or.inr q3193⟩ (zfa1 ⟨_, rfl, Or.inr q3194⟩ (zfa1 ⟨_, rfl, Or.inr q3186⟩ (zfa1 ⟨_, rfl, Or.inr q3201⟩ (zfa1 ⟨_, rfl, Or.inr q3196⟩ (zfa1 ⟨_, rfl, Or.inr q3197⟩ (zfa1 ⟨_, rfl, Or.inr q3198⟩ (zfa1 ⟨_, rfl, Or.inr q3199⟩ (zfa1 ⟨_, rfl, Or.inr q3200⟩ (zfa1 ⟨_, rfl, Or.inr q3202⟩ (zfa1 ⟨_, rfl, Or.inr q3203⟩ (zfa1 ⟨_, rfl, Or.inr q3204⟩ (zfa1 ⟨_, rfl, Or.inr q3205⟩ (zfa1 ⟨_, rfl, Or.inr q3206⟩ (zfa1 ⟨_, rfl, Or.inr q3208⟩ (zfa1 ⟨_, rfl, Or.inr q3209⟩ (zfa1 ⟨_, rfl, Or.inr q3184⟩ (zfa1 ⟨_, rfl, Or.inr q3210⟩ (zfa1 ⟨_, rfl, Or.inr q3211⟩ (zfa1 ⟨_, rfl, Or.inr q3212⟩ (zfa1 ⟨_, rfl, Or.inr q3213⟩ (zfa1 ⟨_, rfl, Or.inr q3215⟩ (zfa1 ⟨_, rfl, Or.inr q3216⟩ (zfa1 ⟨_, rfl, Or.inl rfl⟩ (zfa0)))))))))))))))))))))))))))))))) r57 g58 m59 i60 c61 (z_nm (fun s62 e63 => ?_))
      have hw := hw s62 e63
      refine z_iload_n hX dJ23_poll_44 rfl (i := 3) rfl ?_
      refine z_if_le hX dJ23_poll_45 (tgt := 79) rfl (fun c64 => ?_) (fun c64 => ?_)
      · have hw := hw.1 c64
        refine z_sub (ls' := [none, none, some (va_rf v13), none, none, none]) (zsN (zsN (zsS (zsN (zsN (zsN (zs0))))))) ?_
        exact hj16  _ hw
      · have hw := hw.2 c64
        refine z_aload_n hX dJ23_poll_48 rfl (i := 0) rfl ?_
        obtain ⟨a66, f67, v65, r68, m69, e70, hw⟩ := hw
        refine z_get hX zc18 (k := 2) dJ23_poll_49 (Nat.le_of_ble_eq_true rfl) (zlk hX q1723) r68 m69 e70 ?_
        refine z_dup hX dJ23_poll_52 (zc_rf _) ?_
        refine z_astore hX dJ23_poll_53 (i := 5) (Nat.le_of_ble_eq_true rfl) (zc_rf _) (ls2 := [some (va_rf (some a0)), some (va_rf v1), some (va_rf v13), some (.int (v32 - (1 : Int32))), some (va_rf v52), some (va_rf v65)]) rfl ?_
        refine z_ifnonnull hX dJ23_poll_55 (tgt := 69) rfl (fun c71 => ?_) (fun c71 => ?_)
        · have hw := hw.1 c71
          refine z_iconst hX (v := (0 : Int32)) dJ23_poll_69 (by decide) ?_
          refine z_aload hX dJ23_poll_70 (i := 4) rfl ?_
          refine z_aload_n hX dJ23_poll_72 rfl (i := 1) rfl ?_
          refine z_iload_n hX dJ23_poll_73 rfl (i := 3) rfl ?_
          refine z_aload hX dJ23_poll_74 (i := 5) rfl ?_
          refine z_invS hX hd dJ23_poll_76 (hC 472 _ zm472 _ _ _ _ hw) q2009 q2010 zh37 q2011 q169 zn472 rfl (Nat.le_of_ble_eq_true rfl) (st := []) rfl (zcs8 (Nat.le_of_ble_eq_true rfl)) rfl (zkV (fun s73 hw => ?_)) (zout hX hR hTb)
          refine z_sub (ls' := [none, none, some (va_rf v13), none, none, none]) (zsN (zsN (zsS (zsN (zsN (zsN (zs0))))))) ?_
          exact hj16  _ hw
        · have hw := hw.2 c71
          refine z_iconst hX (v := (0 : Int32)) dJ23_poll_58 (by decide) ?_
          refine z_aload hX dJ23_poll_59 (i := 4) rfl ?_
          refine z_aload_n hX dJ23_poll_61 rfl (i := 1) rfl ?_
          refine z_iload_n hX dJ23_poll_62 rfl (i := 3) rfl ?_
          refine z_invS hX hd dJ23_poll_63 (hC 471 _ zm471 _ _ _ _ hw) q2006 q2007 zh37 q2008 q169 zn471 rfl (Nat.le_of_ble_eq_true rfl) (st := []) rfl (zcs8 (Nat.le_of_ble_eq_true rfl)) rfl (zkV (fun s76 hw => ?_)) (zout hX hR hTb)
          refine z_goto hX dJ23_poll_66 (tgt := 79) rfl ?_
          refine z_sub (ls' := [none, none, some (va_rf v13), none, none, none]) (zsN (zsN (zsS (zsN (zsN (zsN (zs0))))))) ?_
          exact hj16  _ hw
abbrev cJ23_siftDownComparable : ByteArray := prog_66_method_31_code
def yJ23_siftDownComparable : MethodName := ⟨RJ23, "siftDownComparable", "(ILjava/lang/Object;[Ljava/lang/Object;I)V"⟩
def dkwJ23_siftDownComparable_4 : List UInt8 := [25, 4, 83, 177]
abbrev dktJ23_siftDownComparable_4 : List UInt8 := dkwJ23_siftDownComparable_4 ++ []
def dkwJ23_siftDownComparable_3 : List UInt8 := [185, 0, 146, 2, 0, 157, 0, 6, 167, 0, 14, 44, 26, 25, 7, 83, 21, 6, 59, 167, 255, 176, 44, 26]
abbrev dktJ23_siftDownComparable_3 : List UInt8 := dkwJ23_siftDownComparable_3 ++ dktJ23_siftDownComparable_4
def dkwJ23_siftDownComparable_2 : List UInt8 := [21, 8, 50, 185, 0, 146, 2, 0, 158, 0, 12, 44, 21, 8, 89, 54, 6, 50, 58, 7, 25, 4, 25, 7]
abbrev dktJ23_siftDownComparable_2 : List UInt8 := dkwJ23_siftDownComparable_2 ++ dktJ23_siftDownComparable_3
def dkwJ23_siftDownComparable_1 : List UInt8 := [44, 21, 6, 50, 58, 7, 21, 6, 4, 96, 54, 8, 21, 8, 29, 162, 0, 29, 25, 7, 192, 0, 144, 44]
abbrev dktJ23_siftDownComparable_1 : List UInt8 := dkwJ23_siftDownComparable_1 ++ dktJ23_siftDownComparable_2
def dkwJ23_siftDownComparable_0 : List UInt8 := [43, 192, 0, 144, 58, 4, 29, 4, 124, 54, 5, 26, 21, 5, 162, 0, 80, 26, 4, 120, 4, 96, 54, 6]
abbrev dktJ23_siftDownComparable_0 : List UInt8 := dkwJ23_siftDownComparable_0 ++ dktJ23_siftDownComparable_1
theorem dksJ23_siftDownComparable_0 : cJ23_siftDownComparable.data.toList.drop 0 = dktJ23_siftDownComparable_0 := by decide +kernel
theorem dksJ23_siftDownComparable_1 : cJ23_siftDownComparable.data.toList.drop 24 = dktJ23_siftDownComparable_1 := dk_seg dksJ23_siftDownComparable_0 24 rfl rfl
theorem dksJ23_siftDownComparable_2 : cJ23_siftDownComparable.data.toList.drop 48 = dktJ23_siftDownComparable_2 := dk_seg dksJ23_siftDownComparable_1 24 rfl rfl
theorem dksJ23_siftDownComparable_3 : cJ23_siftDownComparable.data.toList.drop 72 = dktJ23_siftDownComparable_3 := dk_seg dksJ23_siftDownComparable_2 24 rfl rfl
theorem dksJ23_siftDownComparable_4 : cJ23_siftDownComparable.data.toList.drop 96 = dktJ23_siftDownComparable_4 := dk_seg dksJ23_siftDownComparable_3 24 rfl rfl
theorem dJ23_siftDownComparable_0 : decode cJ23_siftDownComparable 0 = .ok (.aload_n 1, 1) := dk_43 (dk_at dksJ23_siftDownComparable_0 0 rfl rfl)
theorem dJ23_siftDownComparable_1 : decode cJ23_siftDownComparable 1 = .ok (.checkcast 144, 3) := dk_192 0 144 (dk_at dksJ23_siftDownComparable_0 1 rfl rfl)
theorem dJ23_siftDownComparable_4 : decode cJ23_siftDownComparable 4 = .ok (.astore 4, 2) := dk_58 4 (dk_at dksJ23_siftDownComparable_0 4 rfl rfl)
theorem dJ23_siftDownComparable_6 : decode cJ23_siftDownComparable 6 = .ok (.iload_n 3, 1) := dk_29 (dk_at dksJ23_siftDownComparable_0 6 rfl rfl)
theorem dJ23_siftDownComparable_7 : decode cJ23_siftDownComparable 7 = .ok (.iconst 1, 1) := dk_4 (dk_at dksJ23_siftDownComparable_0 7 rfl rfl)
theorem dJ23_siftDownComparable_8 : decode cJ23_siftDownComparable 8 = .ok (.iushr, 1) := dk_124 (dk_at dksJ23_siftDownComparable_0 8 rfl rfl)
theorem dJ23_siftDownComparable_9 : decode cJ23_siftDownComparable 9 = .ok (.istore 5, 2) := dk_54 5 (dk_at dksJ23_siftDownComparable_0 9 rfl rfl)
theorem dJ23_siftDownComparable_11 : decode cJ23_siftDownComparable 11 = .ok (.iload_n 0, 1) := dk_26 (dk_at dksJ23_siftDownComparable_0 11 rfl rfl)
theorem dJ23_siftDownComparable_12 : decode cJ23_siftDownComparable 12 = .ok (.iload 5, 2) := dk_21 5 (dk_at dksJ23_siftDownComparable_0 12 rfl rfl)
theorem dJ23_siftDownComparable_14 : decode cJ23_siftDownComparable 14 = .ok (.if_icmp .ge 80, 3) := dk_162 0 80 (dk_at dksJ23_siftDownComparable_0 14 rfl rfl)
theorem dJ23_siftDownComparable_17 : decode cJ23_siftDownComparable 17 = .ok (.iload_n 0, 1) := dk_26 (dk_at dksJ23_siftDownComparable_0 17 rfl rfl)
theorem dJ23_siftDownComparable_18 : decode cJ23_siftDownComparable 18 = .ok (.iconst 1, 1) := dk_4 (dk_at dksJ23_siftDownComparable_0 18 rfl rfl)
theorem dJ23_siftDownComparable_19 : decode cJ23_siftDownComparable 19 = .ok (.ishl, 1) := dk_120 (dk_at dksJ23_siftDownComparable_0 19 rfl rfl)
theorem dJ23_siftDownComparable_20 : decode cJ23_siftDownComparable 20 = .ok (.iconst 1, 1) := dk_4 (dk_at dksJ23_siftDownComparable_0 20 rfl rfl)
theorem dJ23_siftDownComparable_21 : decode cJ23_siftDownComparable 21 = .ok (.iadd, 1) := dk_96 (dk_at dksJ23_siftDownComparable_0 21 rfl rfl)
theorem dJ23_siftDownComparable_22 : decode cJ23_siftDownComparable 22 = .ok (.istore 6, 2) := dk_54 6 (dk_at dksJ23_siftDownComparable_0 22 rfl rfl)
theorem dJ23_siftDownComparable_24 : decode cJ23_siftDownComparable 24 = .ok (.aload_n 2, 1) := dk_44 (dk_at dksJ23_siftDownComparable_1 0 rfl rfl)
theorem dJ23_siftDownComparable_25 : decode cJ23_siftDownComparable 25 = .ok (.iload 6, 2) := dk_21 6 (dk_at dksJ23_siftDownComparable_1 1 rfl rfl)
theorem dJ23_siftDownComparable_27 : decode cJ23_siftDownComparable 27 = .ok (.aaload, 1) := dk_50 (dk_at dksJ23_siftDownComparable_1 3 rfl rfl)
theorem dJ23_siftDownComparable_28 : decode cJ23_siftDownComparable 28 = .ok (.astore 7, 2) := dk_58 7 (dk_at dksJ23_siftDownComparable_1 4 rfl rfl)
theorem dJ23_siftDownComparable_30 : decode cJ23_siftDownComparable 30 = .ok (.iload 6, 2) := dk_21 6 (dk_at dksJ23_siftDownComparable_1 6 rfl rfl)
theorem dJ23_siftDownComparable_32 : decode cJ23_siftDownComparable 32 = .ok (.iconst 1, 1) := dk_4 (dk_at dksJ23_siftDownComparable_1 8 rfl rfl)
theorem dJ23_siftDownComparable_33 : decode cJ23_siftDownComparable 33 = .ok (.iadd, 1) := dk_96 (dk_at dksJ23_siftDownComparable_1 9 rfl rfl)
theorem dJ23_siftDownComparable_34 : decode cJ23_siftDownComparable 34 = .ok (.istore 8, 2) := dk_54 8 (dk_at dksJ23_siftDownComparable_1 10 rfl rfl)
theorem dJ23_siftDownComparable_36 : decode cJ23_siftDownComparable 36 = .ok (.iload 8, 2) := dk_21 8 (dk_at dksJ23_siftDownComparable_1 12 rfl rfl)
theorem dJ23_siftDownComparable_38 : decode cJ23_siftDownComparable 38 = .ok (.iload_n 3, 1) := dk_29 (dk_at dksJ23_siftDownComparable_1 14 rfl rfl)
theorem dJ23_siftDownComparable_39 : decode cJ23_siftDownComparable 39 = .ok (.if_icmp .ge 29, 3) := dk_162 0 29 (dk_at dksJ23_siftDownComparable_1 15 rfl rfl)
theorem dJ23_siftDownComparable_42 : decode cJ23_siftDownComparable 42 = .ok (.aload 7, 2) := dk_25 7 (dk_at dksJ23_siftDownComparable_1 18 rfl rfl)
theorem dJ23_siftDownComparable_44 : decode cJ23_siftDownComparable 44 = .ok (.checkcast 144, 3) := dk_192 0 144 (dk_at dksJ23_siftDownComparable_1 20 rfl rfl)
theorem dJ23_siftDownComparable_47 : decode cJ23_siftDownComparable 47 = .ok (.aload_n 2, 1) := dk_44 (dk_at dksJ23_siftDownComparable_1 23 rfl rfl)
theorem dJ23_siftDownComparable_48 : decode cJ23_siftDownComparable 48 = .ok (.iload 8, 2) := dk_21 8 (dk_at dksJ23_siftDownComparable_2 0 rfl rfl)
theorem dJ23_siftDownComparable_50 : decode cJ23_siftDownComparable 50 = .ok (.aaload, 1) := dk_50 (dk_at dksJ23_siftDownComparable_2 2 rfl rfl)
theorem dJ23_siftDownComparable_51 : decode cJ23_siftDownComparable 51 = .ok (.invokeinterface 146 2, 5) := by decide +kernel
theorem dJ23_siftDownComparable_56 : decode cJ23_siftDownComparable 56 = .ok (.ifCond .le 12, 3) := dk_158 0 12 (dk_at dksJ23_siftDownComparable_2 8 rfl rfl)
theorem dJ23_siftDownComparable_59 : decode cJ23_siftDownComparable 59 = .ok (.aload_n 2, 1) := dk_44 (dk_at dksJ23_siftDownComparable_2 11 rfl rfl)
theorem dJ23_siftDownComparable_60 : decode cJ23_siftDownComparable 60 = .ok (.iload 8, 2) := dk_21 8 (dk_at dksJ23_siftDownComparable_2 12 rfl rfl)
theorem dJ23_siftDownComparable_62 : decode cJ23_siftDownComparable 62 = .ok (.dup, 1) := dk_89 (dk_at dksJ23_siftDownComparable_2 14 rfl rfl)
theorem dJ23_siftDownComparable_63 : decode cJ23_siftDownComparable 63 = .ok (.istore 6, 2) := dk_54 6 (dk_at dksJ23_siftDownComparable_2 15 rfl rfl)
theorem dJ23_siftDownComparable_65 : decode cJ23_siftDownComparable 65 = .ok (.aaload, 1) := dk_50 (dk_at dksJ23_siftDownComparable_2 17 rfl rfl)
theorem dJ23_siftDownComparable_66 : decode cJ23_siftDownComparable 66 = .ok (.astore 7, 2) := dk_58 7 (dk_at dksJ23_siftDownComparable_2 18 rfl rfl)
theorem dJ23_siftDownComparable_68 : decode cJ23_siftDownComparable 68 = .ok (.aload 4, 2) := dk_25 4 (dk_at dksJ23_siftDownComparable_2 20 rfl rfl)
theorem dJ23_siftDownComparable_70 : decode cJ23_siftDownComparable 70 = .ok (.aload 7, 2) := dk_25 7 (dk_at dksJ23_siftDownComparable_2 22 rfl rfl)
theorem dJ23_siftDownComparable_72 : decode cJ23_siftDownComparable 72 = .ok (.invokeinterface 146 2, 5) := by decide +kernel
theorem dJ23_siftDownComparable_77 : decode cJ23_siftDownComparable 77 = .ok (.ifCond .gt 6, 3) := dk_157 0 6 (dk_at dksJ23_siftDownComparable_3 5 rfl rfl)
theorem dJ23_siftDownComparable_80 : decode cJ23_siftDownComparable 80 = .ok (.goto 14, 3) := dk_167 0 14 (dk_at dksJ23_siftDownComparable_3 8 rfl rfl)
theorem dJ23_siftDownComparable_83 : decode cJ23_siftDownComparable 83 = .ok (.aload_n 2, 1) := dk_44 (dk_at dksJ23_siftDownComparable_3 11 rfl rfl)
theorem dJ23_siftDownComparable_84 : decode cJ23_siftDownComparable 84 = .ok (.iload_n 0, 1) := dk_26 (dk_at dksJ23_siftDownComparable_3 12 rfl rfl)
theorem dJ23_siftDownComparable_85 : decode cJ23_siftDownComparable 85 = .ok (.aload 7, 2) := dk_25 7 (dk_at dksJ23_siftDownComparable_3 13 rfl rfl)
theorem dJ23_siftDownComparable_87 : decode cJ23_siftDownComparable 87 = .ok (.aastore, 1) := dk_83 (dk_at dksJ23_siftDownComparable_3 15 rfl rfl)
theorem dJ23_siftDownComparable_88 : decode cJ23_siftDownComparable 88 = .ok (.iload 6, 2) := dk_21 6 (dk_at dksJ23_siftDownComparable_3 16 rfl rfl)
theorem dJ23_siftDownComparable_90 : decode cJ23_siftDownComparable 90 = .ok (.istore_n 0, 1) := dk_59 (dk_at dksJ23_siftDownComparable_3 18 rfl rfl)
theorem dJ23_siftDownComparable_91 : decode cJ23_siftDownComparable 91 = .ok (.goto (-80), 3) := dk_167 255 176 (dk_at dksJ23_siftDownComparable_3 19 rfl rfl)
theorem dJ23_siftDownComparable_94 : decode cJ23_siftDownComparable 94 = .ok (.aload_n 2, 1) := dk_44 (dk_at dksJ23_siftDownComparable_3 22 rfl rfl)
theorem dJ23_siftDownComparable_95 : decode cJ23_siftDownComparable 95 = .ok (.iload_n 0, 1) := dk_26 (dk_at dksJ23_siftDownComparable_3 23 rfl rfl)
theorem dJ23_siftDownComparable_96 : decode cJ23_siftDownComparable 96 = .ok (.aload 4, 2) := dk_25 4 (dk_at dksJ23_siftDownComparable_4 0 rfl rfl)
theorem dJ23_siftDownComparable_98 : decode cJ23_siftDownComparable 98 = .ok (.aastore, 1) := dk_83 (dk_at dksJ23_siftDownComparable_4 2 rfl rfl)
theorem dJ23_siftDownComparable_99 : decode cJ23_siftDownComparable 99 = .ok (.return_, 1) := dk_177 (dk_at dksJ23_siftDownComparable_4 3 rfl rfl)
/-- java/util/PriorityQueue.siftDownComparable(ILjava/lang/Object;[Ljava/lang/Object;I)V -/
def zb471 (G : zPg) (C : zO) (args : List Value) (Q : zQ) (Y : zY) (σ : zS) : Prop := ∃ (x1 : Int32) (x2 : Option Nat) (x3 : Option Nat) (x4 : Int32), args = [.int x1, va_rf x2, va_rf x3, .int x4] ∧ ((zcst σ x2 [8, 9, 10] ∧ (∀ v1 : Int32, v1 = ((x4.toUInt32 >>> ((1 : Int32).toUInt32 &&& Int32.toUInt32 31)).toInt32) → ((v1 ≤ x1) → zsR σ G.1 4 [0, 1, 2, 3, 4, 5, 6, 7, 8, 9, 10, 11, 12, 13, 14, 15, 16, 17, 18, 19, 20, 21, 22, 23, 24, 25, 26, 27, 28, 29, 30] x3 x1 x2 (fun s12 => Q none s12)) ∧ ((¬ v1 ≤ x1) → (∀ v14 : Int32, v14 = ((x1 <<< ((1 : Int32) &&& 31)) + (1 : Int32)) → zaR σ 4 x3 v14 (fun v22 => ((x4 ≤ (v14 + (1 : Int32))) → False) ∧ ((¬ x4 ≤ (v14 + (1 : Int32))) → (zcst σ v22 [8, 9, 10] ∧ zaR σ 4 x3 (v14 + (1 : Int32)) (fun v31 => False)))))))))
set_option maxHeartbeats 4000000 in
theorem wk471 {l : Launch} {g : zG} {d : Nat} {C : zO} (hG : zGk g) (hC : zSound l g d C) {args : List Value} {Q : zQ} {Y : zY} {σ : zS} (hw : zb471 (zpg g) C args Q Y σ) : zMet l g (d + 1) (⟨"java/util/PriorityQueue", "siftDownComparable", "(ILjava/lang/Object;[Ljava/lang/Object;I)V"⟩, Cond.code ⟨"java/util/PriorityQueue", "siftDownComparable", "(ILjava/lang/Object;[Ljava/lang/Object;I)V"⟩ prog_66_method_31_code 9 (Option.none : Option FieldType)) args σ Q Y := by
  obtain ⟨x1, x2, x3, x4, rfl, hw⟩ := hw
  refine zof hG (by decide +kernel) [false, false, false, false] ⟨rfl, (zc_rf _), (zc_rf _), rfl, trivial⟩ (Nat.le_of_ble_eq_true rfl) (ls := [some (.int x1), some (va_rf x2), some (va_rf x3), some (.int x4), none, none, none, none, none]) rfl ?_
  intro X hX hR hTb hd1 hd2 hl hg hnm
  subst hl
  subst hg
  have hd : zDep X d := ⟨hd1, hd2⟩
  refine z_aload_n hX dJ23_siftDownComparable_0 rfl (i := 1) rfl ?_
  refine z_cast hX dJ23_siftDownComparable_1 q1793 (zfa1 ⟨_, rfl, Or.inr q1970⟩ (zfa1 ⟨_, rfl, Or.inr q1827⟩ (zfa1 ⟨_, rfl, Or.inr q1816⟩ (zfa0)))) hw.1 ?_
  have hw := hw.2
  refine z_astore hX dJ23_siftDownComparable_4 (i := 4) (Nat.le_of_ble_eq_true rfl) rfl (ls2 := [some (.int x1), some (va_rf x2), some (va_rf x3), some (.int x4), some (va_rf x2), none, none, none, none]) rfl ?_
  refine z_iload_n hX dJ23_siftDownComparable_6 rfl (i := 3) rfl ?_
  refine z_iconst hX (v := (1 : Int32)) dJ23_siftDownComparable_7 (by decide) ?_
  refine z_iushr hX dJ23_siftDownComparable_8 ?_
  refine z_topi (fun v1 e2 => ?_)
  have hw := hw v1 e2
  refine z_istore hX dJ23_siftDownComparable_9 (i := 5) (Nat.le_of_ble_eq_true rfl) (zc_rf _) (ls2 := [some (.int x1), some (va_rf x2), some (va_rf x3), some (.int x4), some (va_rf x2), some (.int v1), none, none, none]) rfl ?_
  refine z_iload_n hX dJ23_siftDownComparable_11 rfl (i := 0) rfl ?_
  refine z_iload hX dJ23_siftDownComparable_12 (i := 5) rfl ?_
  refine z_icmp_ge hX dJ23_siftDownComparable_14 (tgt := 94) rfl (fun c3 => ?_) (fun c3 => ?_)
  · have hw := hw.1 c3
    refine z_aload_n hX dJ23_siftDownComparable_94 rfl (i := 2) rfl ?_
    refine z_iload_n hX dJ23_siftDownComparable_95 rfl (i := 0) rfl ?_
    refine z_aload hX dJ23_siftDownComparable_96 (i := 4) rfl ?_
    obtain ⟨a4, n5, f6, r7, g8, m9, i10, c11, hw⟩ := hw
    refine z_aastM hX 4 dJ23_siftDownComparable_98 rfl rfl (zfa1 ⟨_, rfl, Or.inr q3187⟩ (zfa1 ⟨_, rfl, Or.inr q3188⟩ (zfa1 ⟨_, rfl, Or.inr q3189⟩ (zfa1 ⟨_, rfl, Or.inr q3190⟩ (zfa1 ⟨_, rfl, Or.inr q3191⟩ (zfa1 ⟨_, rfl, Or.inr q3217⟩ (zfa1 ⟨_, rfl, Or.inr q3192⟩ (zfa1 ⟨_, rfl, Or.inr q3193⟩ (zfa1 ⟨_, rfl, Or.inr q3194⟩ (zfa1 ⟨_, rfl, Or.inr q3186⟩ (zfa1 ⟨_, rfl, Or.inr q3201⟩ (zfa1 ⟨_, rfl, Or.inr q3196⟩ (zfa1 ⟨_, rfl, Or.inr q3197⟩ (zfa1 ⟨_, rfl, Or.inr q3198⟩ (zfa1 ⟨_, rfl, Or.inr q3199⟩ (zfa1 ⟨_, rfl, Or.inr q3200⟩ (zfa1 ⟨_, rfl, Or.inr q3202⟩ (zfa1 ⟨_, rfl, Or.inr q3203⟩ (zfa1 ⟨_, rfl, Or.inr q3204⟩ (zfa1 ⟨_, rfl, Or.inr q3205⟩ (zfa1 ⟨_, rfl, Or.inr q3206⟩ (zfa1 ⟨_, rfl, Or.inr q3208⟩ (zfa1 ⟨_, rfl, Or.inr q3209⟩ (zfa1 ⟨_, rfl, Or.inr q3184⟩ (zfa1 ⟨_, rfl, Or.inr q3210⟩ (zfa1 ⟨_, rfl, Or.inr q3211⟩ (zfa1 ⟨_, rfl, Or.inr q3212⟩ (zfa1 ⟨_, rfl, Or.inr q3213⟩ (zfa1 ⟨_, rfl, Or.inr q3215⟩ (zfa1 ⟨_, rfl, Or.inr q3216⟩ (zfa1 ⟨_, rfl, Or.inl rfl⟩ (zfa0)))))))))))))))))))))))))))))))) r7 g8 m9 i10 c11 (z_nm (fun s12 e13 => ?_))
    have hw := hw s12 e13
    exact z_return hX hR dJ23_siftDownComparable_99 hw
  · have hw := hw.2 c3
    refine z_iload_n hX dJ23_siftDownComparable_17 rfl (i := 0) rfl ?_
    refine z_iconst hX (v := (1 : Int32)) dJ23_siftDownComparable_18 (by decide) ?_
    refine z_ishl hX dJ23_siftDownComparable_19 ?_
    refine z_iconst hX (v := (1 : Int32)) dJ23_siftDownComparable_20 (by decide) ?_
    refine z_iadd hX dJ23_siftDownComparable_21 ?_
    refine z_topi (fun v14 e15 => ?_)
    have hw := hw v14 e15
    refine z_istore hX dJ23_siftDownComparable_22 (i := 6) (Nat.le_of_ble_eq_true rfl) rfl (ls2 := [some (.int x1), some (va_rf x2), some (va_rf x3), some (.int x4), some (va_rf x2), some (.int v1), some (.int v14), none, none]) rfl ?_
    refine z_aload_n hX dJ23_siftDownComparable_24 rfl (i := 2) rfl ?_
    refine z_iload hX dJ23_siftDownComparable_25 (i := 6) rfl ?_
    obtain ⟨a16, n17, f18, r19, m20, i21, hw⟩ := hw
    refine z_aald hX 4 dJ23_siftDownComparable_27 rfl r19 m20 i21 ?_
    revert hw
    generalize f18 (Int32.toNatClampNeg v14) = v22
    intro hw
    refine z_astore hX dJ23_siftDownComparable_28 (i := 7) (Nat.le_of_ble_eq_true rfl) rfl (ls2 := [some (.int x1), some (va_rf x2), some (va_rf x3), some (.int x4), some (va_rf x2), some (.int v1), some (.int v14), some (va_rf v22), none]) rfl ?_
    refine z_iload hX dJ23_siftDownComparable_30 (i := 6) rfl ?_
    refine z_iconst hX (v := (1 : Int32)) dJ23_siftDownComparable_32 (by decide) ?_
    refine z_iadd hX dJ23_siftDownComparable_33 ?_
    refine z_istore hX dJ23_siftDownComparable_34 (i := 8) (Nat.le_of_ble_eq_true rfl) (zc_rf _) (ls2 := [some (.int x1), some (va_rf x2), some (va_rf x3), some (.int x4), some (va_rf x2), some (.int v1), some (.int v14), some (va_rf v22), some (.int (v14 + (1 : Int32)))]) rfl ?_
    refine z_iload hX dJ23_siftDownComparable_36 (i := 8) rfl ?_
    refine z_iload_n hX dJ23_siftDownComparable_38 rfl (i := 3) rfl ?_
    refine z_icmp_ge hX dJ23_siftDownComparable_39 (tgt := 68) rfl (fun c24 => ?_) (fun c24 => ?_)
    · have hw := hw.1 c24
      refine z_aload hX dJ23_siftDownComparable_68 (i := 4) rfl ?_
      refine z_aload hX dJ23_siftDownComparable_70 (i := 7) rfl ?_
      exact hw.elim
    · have hw := hw.2 c24
      refine z_aload hX dJ23_siftDownComparable_42 (i := 7) rfl ?_
      refine z_cast hX dJ23_siftDownComparable_44 q1793 (zfa1 ⟨_, rfl, Or.inr q1970⟩ (zfa1 ⟨_, rfl, Or.inr q1827⟩ (zfa1 ⟨_, rfl, Or.inr q1816⟩ (zfa0)))) hw.1 ?_
      have hw := hw.2
      refine z_aload_n hX dJ23_siftDownComparable_47 rfl (i := 2) rfl ?_
      refine z_iload hX dJ23_siftDownComparable_48 (i := 8) rfl ?_
      obtain ⟨a25, n26, f27, r28, m29, i30, hw⟩ := hw
      refine z_aald hX 4 dJ23_siftDownComparable_50 rfl r28 m29 i30 ?_
      revert hw
      generalize f27 (Int32.toNatClampNeg (v14 + (1 : Int32))) = v31
      intro hw
      exact hw.elim
abbrev cJ23_siftDownUsingComparator : ByteArray := prog_66_method_32_code
def yJ23_siftDownUsingComparator : MethodName := ⟨RJ23, "siftDownUsingComparator", "(ILjava/lang/Object;[Ljava/lang/Object;ILjava/util/Comparator;)V"⟩
def dkwJ23_siftDownUsingComparator_4 : List UInt8 := [43, 83, 177]
abbrev dktJ23_siftDownUsingComparator_4 : List UInt8 := dkwJ23_siftDownUsingComparator_4 ++ []
def dkwJ23_siftDownUsingComparator_3 : List UInt8 := [185, 0, 149, 3, 0, 157, 0, 6, 167, 0, 14, 44, 26, 25, 7, 83, 21, 6, 59, 167, 255, 176, 44, 26]
abbrev dktJ23_siftDownUsingComparator_3 : List UInt8 := dkwJ23_siftDownUsingComparator_3 ++ dktJ23_siftDownUsingComparator_4
def dkwJ23_siftDownUsingComparator_2 : List UInt8 := [185, 0, 149, 3, 0, 158, 0, 12, 44, 21, 8, 89, 54, 6, 50, 58, 7, 25, 4, 43, 25, 7]
abbrev dktJ23_siftDownUsingComparator_2 : List UInt8 := dkwJ23_siftDownUsingComparator_2 ++ dktJ23_siftDownUsingComparator_3
def dkwJ23_siftDownUsingComparator_1 : List UInt8 := [21, 6, 4, 96, 54, 8, 21, 8, 29, 162, 0, 28, 25, 4, 25, 7, 44, 21, 8, 50]
abbrev dktJ23_siftDownUsingComparator_1 : List UInt8 := dkwJ23_siftDownUsingComparator_1 ++ dktJ23_siftDownUsingComparator_2
def dkwJ23_siftDownUsingComparator_0 : List UInt8 := [29, 4, 124, 54, 5, 26, 21, 5, 162, 0, 80, 26, 4, 120, 4, 96, 54, 6, 44, 21, 6, 50, 58, 7]
abbrev dktJ23_siftDownUsingComparator_0 : List UInt8 := dkwJ23_siftDownUsingComparator_0 ++ dktJ23_siftDownUsingComparator_1
theorem dksJ23_siftDownUsingComparator_0 : cJ23_siftDownUsingComparator.data.toList.drop 0 = dktJ23_siftDownUsingComparator_0 := by decide +kernel
theorem dksJ23_siftDownUsingComparator_1 : cJ23_siftDownUsingComparator.data.toList.drop 24 = dktJ23_siftDownUsingComparator_1 := dk_seg dksJ23_siftDownUsingComparator_0 24 rfl rfl
theorem dksJ23_siftDownUsingComparator_2 : cJ23_siftDownUsingComparator.data.toList.drop 44 = dktJ23_siftDownUsingComparator_2 := dk_seg dksJ23_siftDownUsingComparator_1 20 rfl rfl
theorem dksJ23_siftDownUsingComparator_3 : cJ23_siftDownUsingComparator.data.toList.drop 66 = dktJ23_siftDownUsingComparator_3 := dk_seg dksJ23_siftDownUsingComparator_2 22 rfl rfl
theorem dksJ23_siftDownUsingComparator_4 : cJ23_siftDownUsingComparator.data.toList.drop 90 = dktJ23_siftDownUsingComparator_4 := dk_seg dksJ23_siftDownUsingComparator_3 24 rfl rfl
theorem dJ23_siftDownUsingComparator_0 : decode cJ23_siftDownUsingComparator 0 = .ok (.iload_n 3, 1) := dk_29 (dk_at dksJ23_siftDownUsingComparator_0 0 rfl rfl)
theorem dJ23_siftDownUsingComparator_1 : decode cJ23_siftDownUsingComparator 1 = .ok (.iconst 1, 1) := dk_4 (dk_at dksJ23_siftDownUsingComparator_0 1 rfl rfl)
theorem dJ23_siftDownUsingComparator_2 : decode cJ23_siftDownUsingComparator 2 = .ok (.iushr, 1) := dk_124 (dk_at dksJ23_siftDownUsingComparator_0 2 rfl rfl)
theorem dJ23_siftDownUsingComparator_3 : decode cJ23_siftDownUsingComparator 3 = .ok (.istore 5, 2) := dk_54 5 (dk_at dksJ23_siftDownUsingComparator_0 3 rfl rfl)
theorem dJ23_siftDownUsingComparator_5 : decode cJ23_siftDownUsingComparator 5 = .ok (.iload_n 0, 1) := dk_26 (dk_at dksJ23_siftDownUsingComparator_0 5 rfl rfl)
theorem dJ23_siftDownUsingComparator_6 : decode cJ23_siftDownUsingComparator 6 = .ok (.iload 5, 2) := dk_21 5 (dk_at dksJ23_siftDownUsingComparator_0 6 rfl rfl)
theorem dJ23_siftDownUsingComparator_8 : decode cJ23_siftDownUsingComparator 8 = .ok (.if_icmp .ge 80, 3) := dk_162 0 80 (dk_at dksJ23_siftDownUsingComparator_0 8 rfl rfl)
theorem dJ23_siftDownUsingComparator_11 : decode cJ23_siftDownUsingComparator 11 = .ok (.iload_n 0, 1) := dk_26 (dk_at dksJ23_siftDownUsingComparator_0 11 rfl rfl)
theorem dJ23_siftDownUsingComparator_12 : decode cJ23_siftDownUsingComparator 12 = .ok (.iconst 1, 1) := dk_4 (dk_at dksJ23_siftDownUsingComparator_0 12 rfl rfl)
theorem dJ23_siftDownUsingComparator_13 : decode cJ23_siftDownUsingComparator 13 = .ok (.ishl, 1) := dk_120 (dk_at dksJ23_siftDownUsingComparator_0 13 rfl rfl)
theorem dJ23_siftDownUsingComparator_14 : decode cJ23_siftDownUsingComparator 14 = .ok (.iconst 1, 1) := dk_4 (dk_at dksJ23_siftDownUsingComparator_0 14 rfl rfl)
theorem dJ23_siftDownUsingComparator_15 : decode cJ23_siftDownUsingComparator 15 = .ok (.iadd, 1) := dk_96 (dk_at dksJ23_siftDownUsingComparator_0 15 rfl rfl)
theorem dJ23_siftDownUsingComparator_16 : decode cJ23_siftDownUsingComparator 16 = .ok (.istore 6, 2) := dk_54 6 (dk_at dksJ23_siftDownUsingComparator_0 16 rfl rfl)
theorem dJ23_siftDownUsingComparator_18 : decode cJ23_siftDownUsingComparator 18 = .ok (.aload_n 2, 1) := dk_44 (dk_at dksJ23_siftDownUsingComparator_0 18 rfl rfl)
theorem dJ23_siftDownUsingComparator_19 : decode cJ23_siftDownUsingComparator 19 = .ok (.iload 6, 2) := dk_21 6 (dk_at dksJ23_siftDownUsingComparator_0 19 rfl rfl)
theorem dJ23_siftDownUsingComparator_21 : decode cJ23_siftDownUsingComparator 21 = .ok (.aaload, 1) := dk_50 (dk_at dksJ23_siftDownUsingComparator_0 21 rfl rfl)
theorem dJ23_siftDownUsingComparator_22 : decode cJ23_siftDownUsingComparator 22 = .ok (.astore 7, 2) := dk_58 7 (dk_at dksJ23_siftDownUsingComparator_0 22 rfl rfl)
theorem dJ23_siftDownUsingComparator_24 : decode cJ23_siftDownUsingComparator 24 = .ok (.iload 6, 2) := dk_21 6 (dk_at dksJ23_siftDownUsingComparator_1 0 rfl rfl)
theorem dJ23_siftDownUsingComparator_26 : decode cJ23_siftDownUsingComparator 26 = .ok (.iconst 1, 1) := dk_4 (dk_at dksJ23_siftDownUsingComparator_1 2 rfl rfl)
theorem dJ23_siftDownUsingComparator_27 : decode cJ23_siftDownUsingComparator 27 = .ok (.iadd, 1) := dk_96 (dk_at dksJ23_siftDownUsingComparator_1 3 rfl rfl)
theorem dJ23_siftDownUsingComparator_28 : decode cJ23_siftDownUsingComparator 28 = .ok (.istore 8, 2) := dk_54 8 (dk_at dksJ23_siftDownUsingComparator_1 4 rfl rfl)
theorem dJ23_siftDownUsingComparator_30 : decode cJ23_siftDownUsingComparator 30 = .ok (.iload 8, 2) := dk_21 8 (dk_at dksJ23_siftDownUsingComparator_1 6 rfl rfl)
theorem dJ23_siftDownUsingComparator_32 : decode cJ23_siftDownUsingComparator 32 = .ok (.iload_n 3, 1) := dk_29 (dk_at dksJ23_siftDownUsingComparator_1 8 rfl rfl)
theorem dJ23_siftDownUsingComparator_33 : decode cJ23_siftDownUsingComparator 33 = .ok (.if_icmp .ge 28, 3) := dk_162 0 28 (dk_at dksJ23_siftDownUsingComparator_1 9 rfl rfl)
theorem dJ23_siftDownUsingComparator_36 : decode cJ23_siftDownUsingComparator 36 = .ok (.aload 4, 2) := dk_25 4 (dk_at dksJ23_siftDownUsingComparator_1 12 rfl rfl)
theorem dJ23_siftDownUsingComparator_38 : decode cJ23_siftDownUsingComparator 38 = .ok (.aload 7, 2) := dk_25 7 (dk_at dksJ23_siftDownUsingComparator_1 14 rfl rfl)
theorem dJ23_siftDownUsingComparator_40 : decode cJ23_siftDownUsingComparator 40 = .ok (.aload_n 2, 1) := dk_44 (dk_at dksJ23_siftDownUsingComparator_1 16 rfl rfl)
theorem dJ23_siftDownUsingComparator_41 : decode cJ23_siftDownUsingComparator 41 = .ok (.iload 8, 2) := dk_21 8 (dk_at dksJ23_siftDownUsingComparator_1 17 rfl rfl)
theorem dJ23_siftDownUsingComparator_43 : decode cJ23_siftDownUsingComparator 43 = .ok (.aaload, 1) := dk_50 (dk_at dksJ23_siftDownUsingComparator_1 19 rfl rfl)
theorem dJ23_siftDownUsingComparator_44 : decode cJ23_siftDownUsingComparator 44 = .ok (.invokeinterface 149 3, 5) := by decide +kernel
theorem dJ23_siftDownUsingComparator_49 : decode cJ23_siftDownUsingComparator 49 = .ok (.ifCond .le 12, 3) := dk_158 0 12 (dk_at dksJ23_siftDownUsingComparator_2 5 rfl rfl)
theorem dJ23_siftDownUsingComparator_52 : decode cJ23_siftDownUsingComparator 52 = .ok (.aload_n 2, 1) := dk_44 (dk_at dksJ23_siftDownUsingComparator_2 8 rfl rfl)
theorem dJ23_siftDownUsingComparator_53 : decode cJ23_siftDownUsingComparator 53 = .ok (.iload 8, 2) := dk_21 8 (dk_at dksJ23_siftDownUsingComparator_2 9 rfl rfl)
theorem dJ23_siftDownUsingComparator_55 : decode cJ23_siftDownUsingComparator 55 = .ok (.dup, 1) := dk_89 (dk_at dksJ23_siftDownUsingComparator_2 11 rfl rfl)
theorem dJ23_siftDownUsingComparator_56 : decode cJ23_siftDownUsingComparator 56 = .ok (.istore 6, 2) := dk_54 6 (dk_at dksJ23_siftDownUsingComparator_2 12 rfl rfl)
theorem dJ23_siftDownUsingComparator_58 : decode cJ23_siftDownUsingComparator 58 = .ok (.aaload, 1) := dk_50 (dk_at dksJ23_siftDownUsingComparator_2 14 rfl rfl)
theorem dJ23_siftDownUsingComparator_59 : decode cJ23_siftDownUsingComparator 59 = .ok (.astore 7, 2) := dk_58 7 (dk_at dksJ23_siftDownUsingComparator_2 15 rfl rfl)
theorem dJ23_siftDownUsingComparator_61 : decode cJ23_siftDownUsingComparator 61 = .ok (.aload 4, 2) := dk_25 4 (dk_at dksJ23_siftDownUsingComparator_2 17 rfl rfl)
theorem dJ23_siftDownUsingComparator_63 : decode cJ23_siftDownUsingComparator 63 = .ok (.aload_n 1, 1) := dk_43 (dk_at dksJ23_siftDownUsingComparator_2 19 rfl rfl)
theorem dJ23_siftDownUsingComparator_64 : decode cJ23_siftDownUsingComparator 64 = .ok (.aload 7, 2) := dk_25 7 (dk_at dksJ23_siftDownUsingComparator_2 20 rfl rfl)
theorem dJ23_siftDownUsingComparator_66 : decode cJ23_siftDownUsingComparator 66 = .ok (.invokeinterface 149 3, 5) := by decide +kernel
theorem dJ23_siftDownUsingComparator_71 : decode cJ23_siftDownUsingComparator 71 = .ok (.ifCond .gt 6, 3) := dk_157 0 6 (dk_at dksJ23_siftDownUsingComparator_3 5 rfl rfl)
theorem dJ23_siftDownUsingComparator_74 : decode cJ23_siftDownUsingComparator 74 = .ok (.goto 14, 3) := dk_167 0 14 (dk_at dksJ23_siftDownUsingComparator_3 8 rfl rfl)
theorem dJ23_siftDownUsingComparator_77 : decode cJ23_siftDownUsingComparator 77 = .ok (.aload_n 2, 1) := dk_44 (dk_at dksJ23_siftDownUsingComparator_3 11 rfl rfl)
theorem dJ23_siftDownUsingComparator_78 : decode cJ23_siftDownUsingComparator 78 = .ok (.iload_n 0, 1) := dk_26 (dk_at dksJ23_siftDownUsingComparator_3 12 rfl rfl)
theorem dJ23_siftDownUsingComparator_79 : decode cJ23_siftDownUsingComparator 79 = .ok (.aload 7, 2) := dk_25 7 (dk_at dksJ23_siftDownUsingComparator_3 13 rfl rfl)
theorem dJ23_siftDownUsingComparator_81 : decode cJ23_siftDownUsingComparator 81 = .ok (.aastore, 1) := dk_83 (dk_at dksJ23_siftDownUsingComparator_3 15 rfl rfl)
theorem dJ23_siftDownUsingComparator_82 : decode cJ23_siftDownUsingComparator 82 = .ok (.iload 6, 2) := dk_21 6 (dk_at dksJ23_siftDownUsingComparator_3 16 rfl rfl)
theorem dJ23_siftDownUsingComparator_84 : decode cJ23_siftDownUsingComparator 84 = .ok (.istore_n 0, 1) := dk_59 (dk_at dksJ23_siftDownUsingComparator_3 18 rfl rfl)
theorem dJ23_siftDownUsingComparator_85 : decode cJ23_siftDownUsingComparator 85 = .ok (.goto (-80), 3) := dk_167 255 176 (dk_at dksJ23_siftDownUsingComparator_3 19 rfl rfl)
theorem dJ23_siftDownUsingComparator_88 : decode cJ23_siftDownUsingComparator 88 = .ok (.aload_n 2, 1) := dk_44 (dk_at dksJ23_siftDownUsingComparator_3 22 rfl rfl)
theorem dJ23_siftDownUsingComparator_89 : decode cJ23_siftDownUsingComparator 89 = .ok (.iload_n 0, 1) := dk_26 (dk_at dksJ23_siftDownUsingComparator_3 23 rfl rfl)
theorem dJ23_siftDownUsingComparator_90 : decode cJ23_siftDownUsingComparator 90 = .ok (.aload_n 1, 1) := dk_43 (dk_at dksJ23_siftDownUsingComparator_4 0 rfl rfl)
theorem dJ23_siftDownUsingComparator_91 : decode cJ23_siftDownUsingComparator 91 = .ok (.aastore, 1) := dk_83 (dk_at dksJ23_siftDownUsingComparator_4 1 rfl rfl)
theorem dJ23_siftDownUsingComparator_92 : decode cJ23_siftDownUsingComparator 92 = .ok (.return_, 1) := dk_177 (dk_at dksJ23_siftDownUsingComparator_4 2 rfl rfl)
/-- java/util/PriorityQueue.siftDownUsingComparator(ILjava/lang/Object;[Ljava/lang/Object;ILjava/util/Comparator;)V -/
def zb472 (G : zPg) (C : zO) (args : List Value) (Q : zQ) (Y : zY) (σ : zS) : Prop := ∃ (x1 : Int32) (x2 : Option Nat) (x3 : Option Nat) (x4 : Int32) (x5 : Option Nat), args = [.int x1, va_rf x2, va_rf x3, .int x4, va_rf x5] ∧ ((∀ v1 : Int32, v1 = ((x4.toUInt32 >>> ((1 : Int32).toUInt32 &&& Int32.toUInt32 31)).toInt32) → ∃ n, zIt (fun _ _ => False) (fun rec5 (p3 : Int32) (s4 : zS) => zJ (fun  (s6 : zS) => zsR s6 G.1 4 [0, 1, 2, 3, 4, 5, 6, 7, 8, 9, 10, 11, 12, 13, 14, 15, 16, 17, 18, 19, 20, 21, 22, 23, 24, 25, 26, 27, 28, 29, 30] x3 p3 x2 (fun s16 => Q none s16)) (fun (j7 : zS → Prop) => ((v1 ≤ p3) → j7 s4) ∧ ((¬ v1 ≤ p3) → (∀ v19 : Int32, v19 = ((p3 <<< ((1 : Int32) &&& 31)) + (1 : Int32)) → zaR s4 4 x3 v19 (fun v27 => zJ (fun (p29 : Int32) (p30 : Option Nat) (s31 : zS) => zrc s31 x5 19 (fun a35 => zcl C 474 [.ref a35, va_rf x2, va_rf p30] Y s31 (zqI (fun v33 s34 => ((0 < v33) → zsR s34 G.1 4 [0, 1, 2, 3, 4, 5, 6, 7, 8, 9, 10, 11, 12, 13, 14, 15, 16, 17, 18, 19, 20, 21, 22, 23, 24, 25, 26, 27, 28, 29, 30] x3 p3 p30 (fun s48 => rec5 p29 s48)) ∧ ((¬ 0 < v33) → j7 s34))))) (fun (j32 : Int32 → Option Nat → zS → Prop) => ((x4 ≤ (v19 + (1 : Int32))) → j32 v19 v27 s4) ∧ ((¬ x4 ≤ (v19 + (1 : Int32))) → zaR s4 4 x3 (v19 + (1 : Int32)) (fun v57 => zrc s4 x5 19 (fun a61 => zcl C 474 [.ref a61, va_rf v27, va_rf v57] Y s4 (zqI (fun v59 s60 => ((v59 ≤ 0) → j32 v19 v27 s60) ∧ ((¬ v59 ≤ 0) → zaR s60 4 x3 (v19 + (1 : Int32)) (fun v72 => j32 (v19 + (1 : Int32)) v72 s60))))))))))))) n x1 σ))
set_option maxHeartbeats 4000000 in
theorem wk472 {l : Launch} {g : zG} {d : Nat} {C : zO} (hG : zGk g) (hC : zSound l g d C) {args : List Value} {Q : zQ} {Y : zY} {σ : zS} (hw : zb472 (zpg g) C args Q Y σ) : zMet l g (d + 1) (⟨"java/util/PriorityQueue", "siftDownUsingComparator", "(ILjava/lang/Object;[Ljava/lang/Object;ILjava/util/Comparator;)V"⟩, Cond.code ⟨"java/util/PriorityQueue", "siftDownUsingComparator", "(ILjava/lang/Object;[Ljava/lang/Object;ILjava/util/Comparator;)V"⟩ prog_66_method_32_code 9 (Option.none : Option FieldType)) args σ Q Y := by
  obtain ⟨x1, x2, x3, x4, x5, rfl, hw⟩ := hw
  refine zof hG (by decide +kernel) [false, false, false, false, false] ⟨rfl, (zc_rf _), (zc_rf _), rfl, (zc_rf _), trivial⟩ (Nat.le_of_ble_eq_true rfl) (ls := [some (.int x1), some (va_rf x2), some (va_rf x3), some (.int x4), some (va_rf x5), none, none, none, none]) rfl ?_
  intro X hX hR hTb hd1 hd2 hl hg hnm
  subst hl
  subst hg
  have hd : zDep X d := ⟨hd1, hd2⟩
  refine z_iload_n hX dJ23_siftDownUsingComparator_0 rfl (i := 3) rfl ?_
  refine z_iconst hX (v := (1 : Int32)) dJ23_siftDownUsingComparator_1 (by decide) ?_
  refine z_iushr hX dJ23_siftDownUsingComparator_2 ?_
  refine z_topi (fun v1 e2 => ?_)
  have hw := hw v1 e2
  refine z_istore hX dJ23_siftDownUsingComparator_3 (i := 5) (Nat.le_of_ble_eq_true rfl) (zc_rf _) (ls2 := [some (.int x1), some (va_rf x2), some (va_rf x3), some (.int x4), some (va_rf x5), some (.int v1), none, none, none]) rfl ?_
  obtain ⟨n74, hw⟩ := hw
  refine zIt_w (P := fun (j : Int32 → zS → Prop) => ∀ (p3 : Int32) (s4 : zS), j p3 s4 → zW X s4 5 [some (.int p3), some (va_rf x2), some (va_rf x3), some (.int x4), some (va_rf x5), some (.int v1), none, none, none] []) (fun _ _ h => h.elim) (fun rec5 hrec5 p3 s4 hw => ?_) n74 _ _ hw
  refine z_iload_n hX dJ23_siftDownUsingComparator_5 rfl (i := 0) rfl ?_
  refine z_iload hX dJ23_siftDownUsingComparator_6 (i := 5) rfl ?_
  refine zJ_w (P := fun (j : zS → Prop) => ∀  (s6 : zS), j  s6 → zW X s6 88 [some (.int p3), some (va_rf x2), some (va_rf x3), none, none, none, none, none, none] []) hw (fun  s6 hw => ?_) (fun j7 hj7 hw => ?_)
  · refine z_aload_n hX dJ23_siftDownUsingComparator_88 rfl (i := 2) rfl ?_
    refine z_iload_n hX dJ23_siftDownUsingComparator_89 rfl (i := 0) rfl ?_
    refine z_aload_n hX dJ23_siftDownUsingComparator_90 rfl (i := 1) rfl ?_
    obtain ⟨a8, n9, f10, r11, g12, m13, i14, c15, hw⟩ := hw
    refine z_aastM hX 4 dJ23_siftDownUsingComparator_91 rfl rfl (zfa1 ⟨_, rfl, Or.inr q3187⟩ (zfa1 ⟨_, rfl, Or.inr q3188⟩ (zfa1 ⟨_, rfl, Or.inr q3189⟩ (zfa1 ⟨_, rfl, Or.inr q3190⟩ (zfa1 ⟨_, rfl, Or.inr q3191⟩ (zfa1 ⟨_, rfl, Or.inr q3217⟩ (zfa1 ⟨_, rfl, Or.inr q3192⟩ (zfa1 ⟨_, rfl, Or.inr q3193⟩ (zfa1 ⟨_, rfl, Or.inr q3194⟩ (zfa1 ⟨_, rfl, Or.inr q3186⟩ (zfa1 ⟨_, rfl, Or.inr q3201⟩ (zfa1 ⟨_, rfl, Or.inr q3196⟩ (zfa1 ⟨_, rfl, Or.inr q3197⟩ (zfa1 ⟨_, rfl, Or.inr q3198⟩ (zfa1 ⟨_, rfl, Or.inr q3199⟩ (zfa1 ⟨_, rfl, Or.inr q3200⟩ (zfa1 ⟨_, rfl, Or.inr q3202⟩ (zfa1 ⟨_, rfl, Or.inr q3203⟩ (zfa1 ⟨_, rfl, Or.inr q3204⟩ (zfa1 ⟨_, rfl, Or.inr q3205⟩ (zfa1 ⟨_, rfl, Or.inr q3206⟩ (zfa1 ⟨_, rfl, Or.inr q3208⟩ (zfa1 ⟨_, rfl, Or.inr q3209⟩ (zfa1 ⟨_, rfl, Or.inr q3184⟩ (zfa1 ⟨_, rfl, Or.inr q3210⟩ (zfa1 ⟨_, rfl, Or.inr q3211⟩ (zfa1 ⟨_, rfl, Or.inr q3212⟩ (zfa1 ⟨_, rfl, Or.inr q3213⟩ (zfa1 ⟨_, rfl, Or.inr q3215⟩ (zfa1 ⟨_, rfl, Or.inr q3216⟩ (zfa1 ⟨_, rfl, Or.inl rfl⟩ (zfa0)))))))))))))))))))))))))))))))) r11 g12 m13 i14 c15 (z_nm (fun s16 e17 => ?_))
    have hw := hw s16 e17
    exact z_return hX hR dJ23_siftDownUsingComparator_92 hw
  · refine z_icmp_ge hX dJ23_siftDownUsingComparator_8 (tgt := 88) rfl (fun c18 => ?_) (fun c18 => ?_)
    · have hw := hw.1 c18
      refine z_sub (ls' := [some (.int p3), some (va_rf x2), some (va_rf x3), none, none, none, none, none, none]) (zsS (zsS (zsS (zsN (zsN (zsN (zsN (zsN (zsN (zs0)))))))))) ?_
      exact hj7  _ hw
    · have hw := hw.2 c18
      refine z_iload_n hX dJ23_siftDownUsingComparator_11 rfl (i := 0) rfl ?_
      refine z_iconst hX (v := (1 : Int32)) dJ23_siftDownUsingComparator_12 (by decide) ?_
      refine z_ishl hX dJ23_siftDownUsingComparator_13 ?_
      refine z_iconst hX (v := (1 : Int32)) dJ23_siftDownUsingComparator_14 (by decide) ?_
      refine z_iadd hX dJ23_siftDownUsingComparator_15 ?_
      refine z_topi (fun v19 e20 => ?_)
      have hw := hw v19 e20
      refine z_istore hX dJ23_siftDownUsingComparator_16 (i := 6) (Nat.le_of_ble_eq_true rfl) rfl (ls2 := [some (.int p3), some (va_rf x2), some (va_rf x3), some (.int x4), some (va_rf x5), some (.int v1), some (.int v19), none, none]) rfl ?_
      refine z_aload_n hX dJ23_siftDownUsingComparator_18 rfl (i := 2) rfl ?_
      refine z_iload hX dJ23_siftDownUsingComparator_19 (i := 6) rfl ?_
      obtain ⟨a21, n22, f23, r24, m25, i26, hw⟩ := hw
      refine z_aald hX 4 dJ23_siftDownUsingComparator_21 rfl r24 m25 i26 ?_
      revert hw
      generalize f23 (Int32.toNatClampNeg v19) = v27
      intro hw
      refine z_astore hX dJ23_siftDownUsingComparator_22 (i := 7) (Nat.le_of_ble_eq_true rfl) rfl (ls2 := [some (.int p3), some (va_rf x2), some (va_rf x3), some (.int x4), some (va_rf x5), some (.int v1), some (.int v19), some (va_rf v27), none]) rfl ?_
      refine z_iload hX dJ23_siftDownUsingComparator_24 (i := 6) rfl ?_
      refine z_iconst hX (v := (1 : Int32)) dJ23_siftDownUsingComparator_26 (by decide) ?_
      refine z_iadd hX dJ23_siftDownUsingComparator_27 ?_
      refine z_istore hX dJ23_siftDownUsingComparator_28 (i := 8) (Nat.le_of_ble_eq_true rfl) (zc_rf _) (ls2 := [some (.int p3), some (va_rf x2), some (va_rf x3), some (.int x4), some (va_rf x5), some (.int v1), some (.int v19), some (va_rf v27), some (.int (v19 + (1 : Int32)))]) rfl ?_
      refine z_iload hX dJ23_siftDownUsingComparator_30 (i := 8) rfl ?_
      refine z_iload_n hX dJ23_siftDownUsingComparator_32 rfl (i := 3) rfl ?_
      refine zJ_w (P := fun (j : Int32 → Option Nat → zS → Prop) => ∀ (p29 : Int32) (p30 : Option Nat) (s31 : zS), j p29 p30 s31 → zW X s31 61 [some (.int p3), some (va_rf x2), some (va_rf x3), some (.int x4), some (va_rf x5), some (.int v1), some (.int p29), some (va_rf p30), none] []) hw (fun p29 p30 s31 hw => ?_) (fun j32 hj32 hw => ?_)
      · refine z_aload hX dJ23_siftDownUsingComparator_61 (i := 4) rfl ?_
        refine z_aload_n hX dJ23_siftDownUsingComparator_63 rfl (i := 1) rfl ?_
        refine z_aload hX dJ23_siftDownUsingComparator_64 (i := 7) rfl ?_
        obtain ⟨a35, f36, r37, m38, hw⟩ := hw
        refine z_invF hX hd r37 (ci := 19) rfl rfl m38 dJ23_siftDownUsingComparator_66 (hC 474 _ zm474 _ _ _ _ hw) q1773 q1777 q1779 q1775 q1774 q1780 q1778 q1776 (by decide) q1781 q170 zn474 rfl (Nat.le_of_ble_eq_true rfl) (st := []) rfl (zcs8 (Nat.le_of_ble_eq_true rfl)) rfl (zkI (fun v33 s34 hw => ?_)) (zout hX hR hTb)
        refine z_if_gt hX dJ23_siftDownUsingComparator_71 (tgt := 77) rfl (fun c39 => ?_) (fun c39 => ?_)
        · have hw := hw.1 c39
          refine z_aload_n hX dJ23_siftDownUsingComparator_77 rfl (i := 2) rfl ?_
          refine z_iload_n hX dJ23_siftDownUsingComparator_78 rfl (i := 0) rfl ?_
          refine z_aload hX dJ23_siftDownUsingComparator_79 (i := 7) rfl ?_
          obtain ⟨a40, n41, f42, r43, g44, m45, i46, c47, hw⟩ := hw
          refine z_aastM hX 4 dJ23_siftDownUsingComparator_81 rfl rfl (zfa1 ⟨_, rfl, Or.inr q3187⟩ (zfa1 ⟨_, rfl, Or.inr q3188⟩ (zfa1 ⟨_, rfl, Or.inr q3189⟩ (zfa1 ⟨_, rfl, Or.inr q3190⟩ (zfa1 ⟨_, rfl, Or.inr q3191⟩ (zfa1 ⟨_, rfl, Or.inr q3217⟩ (zfa1 ⟨_, rfl, Or.inr q3192⟩ (zfa1 ⟨_, rfl, Or.inr q3193⟩ (zfa1 ⟨_, rfl, Or.inr q3194⟩ (zfa1 ⟨_, rfl, Or.inr q3186⟩ (zfa1 ⟨_, rfl, Or.inr q3201⟩ (zfa1 ⟨_, rfl, Or.inr q3196⟩ (zfa1 ⟨_, rfl, Or.inr q3197⟩ (zfa1 ⟨_, rfl, Or.inr q3198⟩ (zfa1 ⟨_, rfl, Or.inr q3199⟩ (zfa1 ⟨_, rfl, Or.inr q3200⟩ (zfa1 ⟨_, rfl, Or.inr q3202⟩ (zfa1 ⟨_, rfl, Or.inr q3203⟩ (zfa1 ⟨_, rfl, Or.inr q3204⟩ (zfa1 ⟨_, rfl, Or.inr q3205⟩ (zfa1 ⟨_, rfl, Or.inr q3206⟩ (zfa1 ⟨_, rfl, Or.inr q3208⟩ (zfa1 ⟨_, rfl, Or.inr q3209⟩ (zfa1 ⟨_, rfl, Or.inr q3184⟩ (zfa1 ⟨_, rfl, Or.inr q3210⟩ (zfa1 ⟨_, rfl, Or.inr q3211⟩ (zfa1 ⟨_, rfl, Or.inr q3212⟩ (zfa1 ⟨_, rfl, Or.inr q3213⟩ (zfa1 ⟨_, rfl, Or.inr q3215⟩ (zfa1 ⟨_, rfl, Or.inr q3216⟩ (zfa1 ⟨_, rfl, Or.inl rfl⟩ (zfa0)))))))))))))))))))))))))))))))) r43 g44 m45 i46 c47 (z_nm (fun s48 e49 => ?_))
          have hw := hw s48 e49
          refine z_iload hX dJ23_siftDownUsingComparator_82 (i := 6) rfl ?_
          refine z_istore_n hX dJ23_siftDownUsingComparator_84 rfl (i := 0) (Nat.le_of_ble_eq_true rfl) trivial (ls2 := [some (.int p29), some (va_rf x2), some (va_rf x3), some (.int x4), some (va_rf x5), some (.int v1), some (.int p29), some (va_rf p30), none]) rfl ?_
          refine z_goto hX dJ23_siftDownUsingComparator_85 (tgt := 5) rfl ?_
          refine z_sub (ls' := [some (.int p29), some (va_rf x2), some (va_rf x3), some (.int x4), some (va_rf x5), some (.int v1), none, none, none]) (zsS (zsS (zsS (zsS (zsS (zsS (zsN (zsN (zsN (zs0)))))))))) ?_
          exact hrec5 _ _ hw
        · have hw := hw.2 c39
          refine z_goto hX dJ23_siftDownUsingComparator_74 (tgt := 88) rfl ?_
          refine z_sub (ls' := [some (.int p3), some (va_rf x2), some (va_rf x3), none, none, none, none, none, none]) (zsS (zsS (zsS (zsN (zsN (zsN (zsN (zsN (zsN (zs0)))))))))) ?_
          exact hj7  _ hw
      · refine z_icmp_ge hX dJ23_siftDownUsingComparator_33 (tgt := 61) rfl (fun c50 => ?_) (fun c50 => ?_)
        · have hw := hw.1 c50
          refine z_sub (ls' := [some (.int p3), some (va_rf x2), some (va_rf x3), some (.int x4), some (va_rf x5), some (.int v1), some (.int v19), some (va_rf v27), none]) (zsS (zsS (zsS (zsS (zsS (zsS (zsS (zsS (zsN (zs0)))))))))) ?_
          exact hj32 _ _ _ hw
        · have hw := hw.2 c50
          refine z_aload hX dJ23_siftDownUsingComparator_36 (i := 4) rfl ?_
          refine z_aload hX dJ23_siftDownUsingComparator_38 (i := 7) rfl ?_
          refine z_aload_n hX dJ23_siftDownUsingComparator_40 rfl (i := 2) rfl ?_
          refine z_iload hX dJ23_siftDownUsingComparator_41 (i := 8) rfl ?_
          obtain ⟨a51, n52, f53, r54, m55, i56, hw⟩ := hw
          refine z_aald hX 4 dJ23_siftDownUsingComparator_43 rfl r54 m55 i56 ?_
          revert hw
          generalize f53 (Int32.toNatClampNeg (v19 + (1 : Int32))) = v57
          intro hw
          obtain ⟨a61, f62, r63, m64, hw⟩ := hw
          refine z_invF hX hd r63 (ci := 19) rfl rfl m64 dJ23_siftDownUsingComparator_44 (hC 474 _ zm474 _ _ _ _ hw) q1773 q1777 q1779 q1775 q1774 q1780 q1778 q1776 (by decide) q1781 q170 zn474 rfl (Nat.le_of_ble_eq_true rfl) (st := []) rfl (zcs8 (Nat.le_of_ble_eq_true rfl)) rfl (zkI (fun v59 s60 hw => ?_)) (zout hX hR hTb)
          refine z_if_le hX dJ23_siftDownUsingComparator_49 (tgt := 61) rfl (fun c65 => ?_) (fun c65 => ?_)
          · have hw := hw.1 c65
            refine z_sub (ls' := [some (.int p3), some (va_rf x2), some (va_rf x3), some (.int x4), some (va_rf x5), some (.int v1), some (.int v19), some (va_rf v27), none]) (zsS (zsS (zsS (zsS (zsS (zsS (zsS (zsS (zsN (zs0)))))))))) ?_
            exact hj32 _ _ _ hw
          · have hw := hw.2 c65
            refine z_aload_n hX dJ23_siftDownUsingComparator_52 rfl (i := 2) rfl ?_
            refine z_iload hX dJ23_siftDownUsingComparator_53 (i := 8) rfl ?_
            refine z_dup hX dJ23_siftDownUsingComparator_55 rfl ?_
            refine z_istore hX dJ23_siftDownUsingComparator_56 (i := 6) (Nat.le_of_ble_eq_true rfl) rfl (ls2 := [some (.int p3), some (va_rf x2), some (va_rf x3), some (.int x4), some (va_rf x5), some (.int v1), some (.int (v19 + (1 : Int32))), some (va_rf v27), some (.int (v19 + (1 : Int32)))]) rfl ?_
            obtain ⟨a66, n67, f68, r69, m70, i71, hw⟩ := hw
            refine z_aald hX 4 dJ23_siftDownUsingComparator_58 rfl r69 m70 i71 ?_
            revert hw
            generalize f68 (Int32.toNatClampNeg (v19 + (1 : Int32))) = v72
            intro hw
            refine z_astore hX dJ23_siftDownUsingComparator_59 (i := 7) (Nat.le_of_ble_eq_true rfl) rfl (ls2 := [some (.int p3), some (va_rf x2), some (va_rf x3), some (.int x4), some (va_rf x5), some (.int v1), some (.int (v19 + (1 : Int32))), some (va_rf v72), some (.int (v19 + (1 : Int32)))]) rfl ?_
            refine z_sub (ls' := [some (.int p3), some (va_rf x2), some (va_rf x3), some (.int x4), some (va_rf x5), some (.int v1), some (.int (v19 + (1 : Int32))), some (va_rf v72), none]) (zsS (zsS (zsS (zsS (zsS (zsS (zsS (zsS (zsN (zs0)))))))))) ?_
            exact hj32 _ _ _ hw
