set_option maxRecDepth 100000
def RJ0 : String := "java/util/AbstractCollection"
abbrev cJ0_init : ByteArray := prog_54_method_1_code
def yJ0_init : MethodName := ⟨RJ0, "<init>", "()V"⟩
theorem dJ0_init_0 : decode cJ0_init 0 = .ok (.aload_n 0, 1) := by decide +kernel
theorem dJ0_init_1 : decode cJ0_init 1 = .ok (.invokespecial 1, 3) := by decide +kernel
theorem dJ0_init_4 : decode cJ0_init 4 = .ok (.return_, 1) := by decide +kernel
/-- java/util/AbstractCollection.<init>()V -/
def zb125 (G : zPg) (C : zO) (args : List Value) (Q : zQ) (Y : zY) (σ : zS) : Prop := ∃ (a0 : Nat), args = [.ref a0] ∧ ((∃ a1, (some a0) = some a1 ∧ Q none σ))
set_option maxHeartbeats 4000000 in
theorem wk125 {l : Launch} {g : zG} {d : Nat} {C : zO} (hG : zGk g) (hC : zSound l g d C) {args : List Value} {Q : zQ} {Y : zY} {σ : zS} (hw : zb125 (zpg g) C args Q Y σ) : zMet l g (d + 1) (⟨"java/util/AbstractCollection", "<init>", "()V"⟩, Cond.code ⟨"java/util/AbstractCollection", "<init>", "()V"⟩ prog_54_method_1_code 1 (Option.none : Option FieldType)) args σ Q Y := by
  obtain ⟨a0, rfl, hw⟩ := hw
  refine zof hG (by decide +kernel) [false] ⟨rfl, trivial⟩ (Nat.le_of_ble_eq_true rfl) (ls := [some (va_rf (some a0))]) rfl ?_
  intro X hX hR hTb hd1 hd2 hl hg hnm
  subst hl
  subst hg
  have hd : zDep X d := ⟨hd1, hd2⟩
  refine z_aload_n hX dJ0_init_0 rfl (i := 0) rfl ?_
  obtain ⟨a1, r2, hw⟩ := hw
  refine z_oinit hX hd dJ0_init_1 q210 q191 q192 r2 rfl (zcs8 (Nat.le_of_ble_eq_true rfl)) ?_
  exact z_return hX hR dJ0_init_4 hw
def RJ1 : String := "java/util/AbstractList"
abbrev cJ1_init : ByteArray := prog_55_method_1_code
def yJ1_init : MethodName := ⟨RJ1, "<init>", "()V"⟩
def dkwJ1_init_0 : List UInt8 := [42, 183, 0, 1, 42, 3, 181, 0, 7, 177]
abbrev dktJ1_init_0 : List UInt8 := dkwJ1_init_0 ++ []
theorem dksJ1_init_0 : cJ1_init.data.toList.drop 0 = dktJ1_init_0 := by decide +kernel
theorem dJ1_init_0 : decode cJ1_init 0 = .ok (.aload_n 0, 1) := dk_42 (dk_at dksJ1_init_0 0 rfl rfl)
theorem dJ1_init_1 : decode cJ1_init 1 = .ok (.invokespecial 1, 3) := dk_183 0 1 (dk_at dksJ1_init_0 1 rfl rfl)
theorem dJ1_init_4 : decode cJ1_init 4 = .ok (.aload_n 0, 1) := dk_42 (dk_at dksJ1_init_0 4 rfl rfl)
theorem dJ1_init_5 : decode cJ1_init 5 = .ok (.iconst 0, 1) := dk_3 (dk_at dksJ1_init_0 5 rfl rfl)
theorem dJ1_init_6 : decode cJ1_init 6 = .ok (.putfield 7, 3) := dk_181 0 7 (dk_at dksJ1_init_0 6 rfl rfl)
theorem dJ1_init_9 : decode cJ1_init 9 = .ok (.return_, 1) := dk_177 (dk_at dksJ1_init_0 9 rfl rfl)
/-- java/util/AbstractList.<init>()V -/
def zb126 (G : zPg) (C : zO) (args : List Value) (Q : zQ) (Y : zY) (σ : zS) : Prop := ∃ (a0 : Nat), args = [.ref a0] ∧ ((∃ a4, (some a0) = some a4 ∧ zcl C 125 [.ref a4] Y σ (zqV (fun s2 => zput s2 G.1 (some a0) 2 0 (.int (0 : Int32)) (fun s6 => Q none s6)))))
set_option maxHeartbeats 4000000 in
theorem wk126 {l : Launch} {g : zG} {d : Nat} {C : zO} (hG : zGk g) (hC : zSound l g d C) {args : List Value} {Q : zQ} {Y : zY} {σ : zS} (hw : zb126 (zpg g) C args Q Y σ) : zMet l g (d + 1) (⟨"java/util/AbstractList", "<init>", "()V"⟩, Cond.code ⟨"java/util/AbstractList", "<init>", "()V"⟩ prog_55_method_1_code 1 (Option.none : Option FieldType)) args σ Q Y := by
  obtain ⟨a0, rfl, hw⟩ := hw
  refine zof hG (by decide +kernel) [false] ⟨rfl, trivial⟩ (Nat.le_of_ble_eq_true rfl) (ls := [some (va_rf (some a0))]) rfl ?_
  intro X hX hR hTb hd1 hd2 hl hg hnm
  subst hl
  subst hg
  have hd : zDep X d := ⟨hd1, hd2⟩
  refine z_aload_n hX dJ1_init_0 rfl (i := 0) rfl ?_
  obtain ⟨a4, r5, hw⟩ := hw
  refine z_invI hX hd r5 dJ1_init_1 (hC 125 _ zm125 _ _ _ _ hw) q207 q208 rfl zh3 q209 q132 zn125 rfl (Nat.le_of_ble_eq_true rfl) (st := []) rfl (zcs8 (Nat.le_of_ble_eq_true rfl)) rfl (zkV (fun s2 hw => ?_)) (zout hX hR hTb)
  refine z_aload_n hX dJ1_init_4 rfl (i := 0) rfl ?_
  refine z_iconst hX (v := (0 : Int32)) dJ1_init_5 (by decide) ?_
  obtain ⟨a8, f9, r10, g11, m12, l13, hw⟩ := hw
  refine z_put hX zc2 (k := 0) dJ1_init_6 (Nat.le_of_ble_eq_true rfl) (zlk hX q215) rfl rfl rfl r10 g11 m12 l13 (z_nm (fun s6 e7 => ?_))
  have hw := hw s6 e7
  exact z_return hX hR dJ1_init_9 hw
abbrev cJ2_init : ByteArray := prog_58_method_2_code
def yJ2_init : MethodName := ⟨RJ2, "<init>", "()V"⟩
def dkwJ2_init_0 : List UInt8 := [42, 183, 0, 1, 42, 178, 0, 39, 181, 0, 9, 177]
abbrev dktJ2_init_0 : List UInt8 := dkwJ2_init_0 ++ []
theorem dksJ2_init_0 : cJ2_init.data.toList.drop 0 = dktJ2_init_0 := by decide +kernel
theorem dJ2_init_0 : decode cJ2_init 0 = .ok (.aload_n 0, 1) := dk_42 (dk_at dksJ2_init_0 0 rfl rfl)
theorem dJ2_init_1 : decode cJ2_init 1 = .ok (.invokespecial 1, 3) := dk_183 0 1 (dk_at dksJ2_init_0 1 rfl rfl)
theorem dJ2_init_4 : decode cJ2_init 4 = .ok (.aload_n 0, 1) := dk_42 (dk_at dksJ2_init_0 4 rfl rfl)
theorem dJ2_init_5 : decode cJ2_init 5 = .ok (.getstatic 39, 3) := dk_178 0 39 (dk_at dksJ2_init_0 5 rfl rfl)
theorem dJ2_init_8 : decode cJ2_init 8 = .ok (.putfield 9, 3) := dk_181 0 9 (dk_at dksJ2_init_0 8 rfl rfl)
theorem dJ2_init_11 : decode cJ2_init 11 = .ok (.return_, 1) := dk_177 (dk_at dksJ2_init_0 11 rfl rfl)
/-- java/util/ArrayList.<init>()V -/
def zb127 (G : zPg) (C : zO) (args : List Value) (Q : zQ) (Y : zY) (σ : zS) : Prop := ∃ (a0 : Nat), args = [.ref a0] ∧ ((∃ a4, (some a0) = some a4 ∧ zcl C 126 [.ref a4] Y σ (zqV (fun s2 => zput s2 G.1 (some a0) 2 1 (va_rf (some (G.2 54))) (fun s6 => Q none s6)))))
set_option maxHeartbeats 4000000 in
theorem wk127 {l : Launch} {g : zG} {d : Nat} {C : zO} (hG : zGk g) (hC : zSound l g d C) {args : List Value} {Q : zQ} {Y : zY} {σ : zS} (hw : zb127 (zpg g) C args Q Y σ) : zMet l g (d + 1) (⟨"java/util/ArrayList", "<init>", "()V"⟩, Cond.code ⟨"java/util/ArrayList", "<init>", "()V"⟩ prog_58_method_2_code 1 (Option.none : Option FieldType)) args σ Q Y := by
  obtain ⟨a0, rfl, hw⟩ := hw
  refine zof hG (by decide +kernel) [false] ⟨rfl, trivial⟩ (Nat.le_of_ble_eq_true rfl) (ls := [some (va_rf (some a0))]) rfl ?_
  intro X hX hR hTb hd1 hd2 hl hg hnm
  subst hl
  subst hg
  have hd : zDep X d := ⟨hd1, hd2⟩
  refine z_aload_n hX dJ2_init_0 rfl (i := 0) rfl ?_
  obtain ⟨a4, r5, hw⟩ := hw
  refine z_invI hX hd r5 dJ2_init_1 (hC 126 _ zm126 _ _ _ _ hw) q204 q205 rfl zh4 q206 q133 zn126 rfl (Nat.le_of_ble_eq_true rfl) (st := []) rfl (zcs8 (Nat.le_of_ble_eq_true rfl)) rfl (zkV (fun s2 hw => ?_)) (zout hX hR hTb)
  refine z_aload_n hX dJ2_init_4 rfl (i := 0) rfl ?_
  refine z_gets hX dJ2_init_5 (List.mem_of_getElem? (i := 4) rfl) q211 rfl ?_
  show zW _ _ _ _ (va_rf (some (X.g.2.2.2 54)) :: _)
  obtain ⟨a8, f9, r10, g11, m12, l13, hw⟩ := hw
  refine z_put hX zc2 (k := 1) dJ2_init_8 (Nat.le_of_ble_eq_true rfl) (zlk hX q213) rfl (zn_a _ _) (zf_a _ _) r10 g11 m12 l13 (z_nm (fun s6 e7 => ?_))
  have hw := hw s6 e7
  exact z_return hX hR dJ2_init_11 hw
abbrev cJ2_size : ByteArray := prog_58_method_8_code
def yJ2_size : MethodName := ⟨RJ2, "size", "()I"⟩
theorem dJ2_size_0 : decode cJ2_size 0 = .ok (.aload_n 0, 1) := by decide +kernel
theorem dJ2_size_1 : decode cJ2_size 1 = .ok (.getfield 48, 3) := by decide +kernel
theorem dJ2_size_4 : decode cJ2_size 4 = .ok (.ireturn, 1) := by decide +kernel
/-- java/util/ArrayList.size()I -/
def zb128 (G : zPg) (C : zO) (args : List Value) (Q : zQ) (Y : zY) (σ : zS) : Prop := ∃ (a0 : Nat), args = [.ref a0] ∧ (zgI σ (some a0) 2 2 (fun v1 => Q (some (.int v1)) σ))
set_option maxHeartbeats 4000000 in
theorem wk128 {l : Launch} {g : zG} {d : Nat} {C : zO} (hG : zGk g) (hC : zSound l g d C) {args : List Value} {Q : zQ} {Y : zY} {σ : zS} (hw : zb128 (zpg g) C args Q Y σ) : zMet l g (d + 1) (⟨"java/util/ArrayList", "size", "()I"⟩, Cond.code ⟨"java/util/ArrayList", "size", "()I"⟩ prog_58_method_8_code 1 (Option.some FieldType.int)) args σ Q Y := by
  obtain ⟨a0, rfl, hw⟩ := hw
  refine zof hG (by decide +kernel) [false] ⟨rfl, trivial⟩ (Nat.le_of_ble_eq_true rfl) (ls := [some (va_rf (some a0))]) rfl ?_
  intro X hX hR hTb hd1 hd2 hl hg hnm
  subst hl
  subst hg
  have hd : zDep X d := ⟨hd1, hd2⟩
  refine z_aload_n hX dJ2_size_0 rfl (i := 0) rfl ?_
  obtain ⟨a2, f3, v1, r4, m5, e6, hw⟩ := hw
  refine z_get hX zc2 (k := 2) dJ2_size_1 (Nat.le_of_ble_eq_true rfl) (zlk hX q214) r4 m5 e6 ?_
  exact z_ireturn hX hR dJ2_size_4 rfl hw
abbrev cJ2_get : ByteArray := prog_58_method_20_code
def yJ2_get : MethodName := ⟨RJ2, "get", "(I)Ljava/lang/Object;"⟩
def dkwJ2_get_0 : List UInt8 := [27, 42, 180, 0, 48, 184, 0, 118, 87, 42, 27, 182, 0, 123, 176]
abbrev dktJ2_get_0 : List UInt8 := dkwJ2_get_0 ++ []
theorem dksJ2_get_0 : cJ2_get.data.toList.drop 0 = dktJ2_get_0 := by decide +kernel
theorem dJ2_get_0 : decode cJ2_get 0 = .ok (.iload_n 1, 1) := dk_27 (dk_at dksJ2_get_0 0 rfl rfl)
theorem dJ2_get_1 : decode cJ2_get 1 = .ok (.aload_n 0, 1) := dk_42 (dk_at dksJ2_get_0 1 rfl rfl)
theorem dJ2_get_2 : decode cJ2_get 2 = .ok (.getfield 48, 3) := dk_180 0 48 (dk_at dksJ2_get_0 2 rfl rfl)
theorem dJ2_get_5 : decode cJ2_get 5 = .ok (.invokestatic 118, 3) := dk_184 0 118 (dk_at dksJ2_get_0 5 rfl rfl)
theorem dJ2_get_8 : decode cJ2_get 8 = .ok (.pop, 1) := dk_87 (dk_at dksJ2_get_0 8 rfl rfl)
theorem dJ2_get_9 : decode cJ2_get 9 = .ok (.aload_n 0, 1) := dk_42 (dk_at dksJ2_get_0 9 rfl rfl)
theorem dJ2_get_10 : decode cJ2_get 10 = .ok (.iload_n 1, 1) := dk_27 (dk_at dksJ2_get_0 10 rfl rfl)
theorem dJ2_get_11 : decode cJ2_get 11 = .ok (.invokevirtual 123, 3) := dk_182 0 123 (dk_at dksJ2_get_0 11 rfl rfl)
theorem dJ2_get_14 : decode cJ2_get 14 = .ok (.areturn, 1) := dk_176 (dk_at dksJ2_get_0 14 rfl rfl)
/-- java/util/ArrayList.get(I)Ljava/lang/Object; -/
def zb129 (G : zPg) (C : zO) (args : List Value) (Q : zQ) (Y : zY) (σ : zS) : Prop := ∃ (a0 : Nat) (x1 : Int32), args = [.ref a0, .int x1] ∧ (zgI σ (some a0) 2 2 (fun v1 => zcl C 454 [.int x1, .int v1] Y σ (zqI (fun v7 s8 => zrc s8 (some a0) 2 (fun a13 => zcl C 130 [.ref a13, .int x1] Y s8 (zqR (fun v10 s11 => Q (some (va_rf v10)) s11)))))))
set_option maxHeartbeats 4000000 in
theorem wk129 {l : Launch} {g : zG} {d : Nat} {C : zO} (hG : zGk g) (hC : zSound l g d C) {args : List Value} {Q : zQ} {Y : zY} {σ : zS} (hw : zb129 (zpg g) C args Q Y σ) : zMet l g (d + 1) (⟨"java/util/ArrayList", "get", "(I)Ljava/lang/Object;"⟩, Cond.code ⟨"java/util/ArrayList", "get", "(I)Ljava/lang/Object;"⟩ prog_58_method_20_code 2 (Option.some (FieldType.object "java/lang/Object"))) args σ Q Y := by
  obtain ⟨a0, x1, rfl, hw⟩ := hw
  refine zof hG (by decide +kernel) [false, false] ⟨rfl, rfl, trivial⟩ (Nat.le_of_ble_eq_true rfl) (ls := [some (va_rf (some a0)), some (.int x1)]) rfl ?_
  intro X hX hR hTb hd1 hd2 hl hg hnm
  subst hl
  subst hg
  have hd : zDep X d := ⟨hd1, hd2⟩
  refine z_iload_n hX dJ2_get_0 rfl (i := 1) rfl ?_
  refine z_aload_n hX dJ2_get_1 rfl (i := 0) rfl ?_
  obtain ⟨a2, f3, v1, r4, m5, e6, hw⟩ := hw
  refine z_get hX zc2 (k := 2) dJ2_get_2 (Nat.le_of_ble_eq_true rfl) (zlk hX q214) r4 m5 e6 ?_
  refine z_invS hX hd dJ2_get_5 (hC 454 _ zm454 _ _ _ _ hw) q375 q376 zh31 q377 q162 zn454 rfl (Nat.le_of_ble_eq_true rfl) (st := []) rfl (zcs8 (Nat.le_of_ble_eq_true rfl)) rfl (zkI (fun v7 s8 hw => ?_)) (zout hX hR hTb)
  refine z_pop hX dJ2_get_8 rfl ?_
  refine z_aload_n hX dJ2_get_9 rfl (i := 0) rfl ?_
  refine z_iload_n hX dJ2_get_10 rfl (i := 1) rfl ?_
  obtain ⟨a13, f14, r15, m16, hw⟩ := hw
  refine z_invV hX hd r15 (ci := 2) rfl rfl m16 dJ2_get_11 (hC 130 _ zm130 _ _ _ _ hw) q381 q382 q383 zh5 q384 q134 zn130 rfl (Nat.le_of_ble_eq_true rfl) (st := []) rfl (zcs8 (Nat.le_of_ble_eq_true rfl)) rfl (zkR (fun v10 s11 hw => ?_)) (zout hX hR hTb)
  exact z_areturn hX hR dJ2_get_14 (Or.inl ⟨_, rfl⟩) hw
abbrev cJ2_elementData : ByteArray := prog_58_method_18_code
def yJ2_elementData : MethodName := ⟨RJ2, "elementData", "(I)Ljava/lang/Object;"⟩
def dkwJ2_elementData_0 : List UInt8 := [42, 180, 0, 9, 27, 50, 176]
abbrev dktJ2_elementData_0 : List UInt8 := dkwJ2_elementData_0 ++ []
theorem dksJ2_elementData_0 : cJ2_elementData.data.toList.drop 0 = dktJ2_elementData_0 := by decide +kernel
theorem dJ2_elementData_0 : decode cJ2_elementData 0 = .ok (.aload_n 0, 1) := dk_42 (dk_at dksJ2_elementData_0 0 rfl rfl)
theorem dJ2_elementData_1 : decode cJ2_elementData 1 = .ok (.getfield 9, 3) := dk_180 0 9 (dk_at dksJ2_elementData_0 1 rfl rfl)
theorem dJ2_elementData_4 : decode cJ2_elementData 4 = .ok (.iload_n 1, 1) := dk_27 (dk_at dksJ2_elementData_0 4 rfl rfl)
theorem dJ2_elementData_5 : decode cJ2_elementData 5 = .ok (.aaload, 1) := dk_50 (dk_at dksJ2_elementData_0 5 rfl rfl)
theorem dJ2_elementData_6 : decode cJ2_elementData 6 = .ok (.areturn, 1) := dk_176 (dk_at dksJ2_elementData_0 6 rfl rfl)
/-- java/util/ArrayList.elementData(I)Ljava/lang/Object; -/
def zb130 (G : zPg) (C : zO) (args : List Value) (Q : zQ) (Y : zY) (σ : zS) : Prop := ∃ (a0 : Nat) (x1 : Int32), args = [.ref a0, .int x1] ∧ (zgR σ (some a0) 2 1 (fun v1 => zaR σ 4 v1 x1 (fun v13 => Q (some (va_rf v13)) σ)))
set_option maxHeartbeats 4000000 in
theorem wk130 {l : Launch} {g : zG} {d : Nat} {C : zO} (hG : zGk g) (hC : zSound l g d C) {args : List Value} {Q : zQ} {Y : zY} {σ : zS} (hw : zb130 (zpg g) C args Q Y σ) : zMet l g (d + 1) (⟨"java/util/ArrayList", "elementData", "(I)Ljava/lang/Object;"⟩, Cond.code ⟨"java/util/ArrayList", "elementData", "(I)Ljava/lang/Object;"⟩ prog_58_method_18_code 2 (Option.some (FieldType.object "java/lang/Object"))) args σ Q Y := by
  obtain ⟨a0, x1, rfl, hw⟩ := hw
  refine zof hG (by decide +kernel) [false, false] ⟨rfl, rfl, trivial⟩ (Nat.le_of_ble_eq_true rfl) (ls := [some (va_rf (some a0)), some (.int x1)]) rfl ?_
  intro X hX hR hTb hd1 hd2 hl hg hnm
  subst hl
  subst hg
  have hd : zDep X d := ⟨hd1, hd2⟩
  refine z_aload_n hX dJ2_elementData_0 rfl (i := 0) rfl ?_
  obtain ⟨a2, f3, v1, r4, m5, e6, hw⟩ := hw
  refine z_get hX zc2 (k := 1) dJ2_elementData_1 (Nat.le_of_ble_eq_true rfl) (zlk hX q213) r4 m5 e6 ?_
  refine z_iload_n hX dJ2_elementData_4 rfl (i := 1) rfl ?_
  obtain ⟨a7, n8, f9, r10, m11, i12, hw⟩ := hw
  refine z_aald hX 4 dJ2_elementData_5 rfl r10 m11 i12 ?_
  revert hw
  generalize f9 (Int32.toNatClampNeg x1) = v13
  intro hw
  exact z_areturn hX hR dJ2_elementData_6 (Or.inl ⟨_, rfl⟩) hw
abbrev cJ2_add : ByteArray := prog_58_method_25_code
def yJ2_add : MethodName := ⟨RJ2, "add", "(Ljava/lang/Object;)Z"⟩
def dkwJ2_add_1 : List UInt8 := [172]
abbrev dktJ2_add_1 : List UInt8 := dkwJ2_add_1 ++ []
def dkwJ2_add_0 : List UInt8 := [42, 89, 180, 0, 63, 4, 96, 181, 0, 63, 42, 43, 42, 180, 0, 9, 42, 180, 0, 48, 182, 0, 131, 4]
abbrev dktJ2_add_0 : List UInt8 := dkwJ2_add_0 ++ dktJ2_add_1
theorem dksJ2_add_0 : cJ2_add.data.toList.drop 0 = dktJ2_add_0 := by decide +kernel
theorem dksJ2_add_1 : cJ2_add.data.toList.drop 24 = dktJ2_add_1 := dk_seg dksJ2_add_0 24 rfl rfl
theorem dJ2_add_0 : decode cJ2_add 0 = .ok (.aload_n 0, 1) := dk_42 (dk_at dksJ2_add_0 0 rfl rfl)
theorem dJ2_add_1 : decode cJ2_add 1 = .ok (.dup, 1) := dk_89 (dk_at dksJ2_add_0 1 rfl rfl)
theorem dJ2_add_2 : decode cJ2_add 2 = .ok (.getfield 63, 3) := dk_180 0 63 (dk_at dksJ2_add_0 2 rfl rfl)
theorem dJ2_add_5 : decode cJ2_add 5 = .ok (.iconst 1, 1) := dk_4 (dk_at dksJ2_add_0 5 rfl rfl)
theorem dJ2_add_6 : decode cJ2_add 6 = .ok (.iadd, 1) := dk_96 (dk_at dksJ2_add_0 6 rfl rfl)
theorem dJ2_add_7 : decode cJ2_add 7 = .ok (.putfield 63, 3) := dk_181 0 63 (dk_at dksJ2_add_0 7 rfl rfl)
theorem dJ2_add_10 : decode cJ2_add 10 = .ok (.aload_n 0, 1) := dk_42 (dk_at dksJ2_add_0 10 rfl rfl)
theorem dJ2_add_11 : decode cJ2_add 11 = .ok (.aload_n 1, 1) := dk_43 (dk_at dksJ2_add_0 11 rfl rfl)
theorem dJ2_add_12 : decode cJ2_add 12 = .ok (.aload_n 0, 1) := dk_42 (dk_at dksJ2_add_0 12 rfl rfl)
theorem dJ2_add_13 : decode cJ2_add 13 = .ok (.getfield 9, 3) := dk_180 0 9 (dk_at dksJ2_add_0 13 rfl rfl)
theorem dJ2_add_16 : decode cJ2_add 16 = .ok (.aload_n 0, 1) := dk_42 (dk_at dksJ2_add_0 16 rfl rfl)
theorem dJ2_add_17 : decode cJ2_add 17 = .ok (.getfield 48, 3) := dk_180 0 48 (dk_at dksJ2_add_0 17 rfl rfl)
theorem dJ2_add_20 : decode cJ2_add 20 = .ok (.invokevirtual 131, 3) := dk_182 0 131 (dk_at dksJ2_add_0 20 rfl rfl)
theorem dJ2_add_23 : decode cJ2_add 23 = .ok (.iconst 1, 1) := dk_4 (dk_at dksJ2_add_0 23 rfl rfl)
theorem dJ2_add_24 : decode cJ2_add 24 = .ok (.ireturn, 1) := dk_172 (dk_at dksJ2_add_1 0 rfl rfl)
/-- java/util/ArrayList.add(Ljava/lang/Object;)Z -/
def zb131 (G : zPg) (C : zO) (args : List Value) (Q : zQ) (Y : zY) (σ : zS) : Prop := ∃ (a0 : Nat) (x1 : Option Nat), args = [.ref a0, va_rf x1] ∧ (zgI σ (some a0) 2 0 (fun v1 => zput σ G.1 (some a0) 2 0 (.int (v1 + (1 : Int32))) (fun s7 => zgR s7 (some a0) 2 1 (fun v15 => zgI s7 (some a0) 2 2 (fun v21 => zrc s7 (some a0) 2 (fun a30 => zcl C 132 [.ref a30, va_rf x1, va_rf v15, .int v21] Y s7 (zqV (fun s28 => zbool (1 : Int32) ∧ Q (some (.int (1 : Int32))) s28))))))))
set_option maxHeartbeats 4000000 in
theorem wk131 {l : Launch} {g : zG} {d : Nat} {C : zO} (hG : zGk g) (hC : zSound l g d C) {args : List Value} {Q : zQ} {Y : zY} {σ : zS} (hw : zb131 (zpg g) C args Q Y σ) : zMet l g (d + 1) (⟨"java/util/ArrayList", "add", "(Ljava/lang/Object;)Z"⟩, Cond.code ⟨"java/util/ArrayList", "add", "(Ljava/lang/Object;)Z"⟩ prog_58_method_25_code 2 (Option.some FieldType.boolean)) args σ Q Y := by
  obtain ⟨a0, x1, rfl, hw⟩ := hw
  refine zof hG (by decide +kernel) [false, false] ⟨rfl, (zc_rf _), trivial⟩ (Nat.le_of_ble_eq_true rfl) (ls := [some (va_rf (some a0)), some (va_rf x1)]) rfl ?_
  intro X hX hR hTb hd1 hd2 hl hg hnm
  subst hl
  subst hg
  have hd : zDep X d := ⟨hd1, hd2⟩
  refine z_aload_n hX dJ2_add_0 rfl (i := 0) rfl ?_
  refine z_dup hX dJ2_add_1 (zc_rf _) ?_
  obtain ⟨a2, f3, v1, r4, m5, e6, hw⟩ := hw
  refine z_get hX zc2 (k := 0) dJ2_add_2 (Nat.le_of_ble_eq_true rfl) (zlkS hX "java/util/ArrayList" q216 q217) r4 m5 e6 ?_
  refine z_iconst hX (v := (1 : Int32)) dJ2_add_5 (by decide) ?_
  refine z_iadd hX dJ2_add_6 ?_
  obtain ⟨a9, f10, r11, g12, m13, l14, hw⟩ := hw
  refine z_put hX zc2 (k := 0) dJ2_add_7 (Nat.le_of_ble_eq_true rfl) (zlkS hX "java/util/ArrayList" q216 q217) rfl rfl rfl r11 g12 m13 l14 (z_nm (fun s7 e8 => ?_))
  have hw := hw s7 e8
  refine z_aload_n hX dJ2_add_10 rfl (i := 0) rfl ?_
  refine z_aload_n hX dJ2_add_11 rfl (i := 1) rfl ?_
  refine z_aload_n hX dJ2_add_12 rfl (i := 0) rfl ?_
  obtain ⟨a16, f17, v15, r18, m19, e20, hw⟩ := hw
  refine z_get hX zc2 (k := 1) dJ2_add_13 (Nat.le_of_ble_eq_true rfl) (zlk hX q213) r18 m19 e20 ?_
  refine z_aload_n hX dJ2_add_16 rfl (i := 0) rfl ?_
  obtain ⟨a22, f23, v21, r24, m25, e26, hw⟩ := hw
  refine z_get hX zc2 (k := 2) dJ2_add_17 (Nat.le_of_ble_eq_true rfl) (zlk hX q214) r24 m25 e26 ?_
  obtain ⟨a30, f31, r32, m33, hw⟩ := hw
  refine z_invV hX hd r32 (ci := 2) rfl rfl m33 dJ2_add_20 (hC 132 _ zm132 _ _ _ _ hw) q768 q770 qs11 zh5 q771 q134 zn132 rfl (Nat.le_of_ble_eq_true rfl) (st := []) rfl (zcs8 (Nat.le_of_ble_eq_true rfl)) rfl (zkV (fun s28 hw => ?_)) (zout hX hR hTb)
  refine z_iconst hX (v := (1 : Int32)) dJ2_add_23 (by decide) ?_
  exact z_ireturn hX hR dJ2_add_24 (zn_z hw.1) hw.2
abbrev cJ2_add_2 : ByteArray := prog_58_method_24_code
def yJ2_add_2 : MethodName := ⟨RJ2, "add", "(Ljava/lang/Object;[Ljava/lang/Object;I)V"⟩
def dkwJ2_add_2_0 : List UInt8 := [29, 44, 190, 160, 0, 8, 42, 182, 0, 129, 77, 44, 29, 43, 83, 42, 29, 4, 96, 181, 0, 48, 177]
abbrev dktJ2_add_2_0 : List UInt8 := dkwJ2_add_2_0 ++ []
theorem dksJ2_add_2_0 : cJ2_add_2.data.toList.drop 0 = dktJ2_add_2_0 := by decide +kernel
theorem dJ2_add_2_0 : decode cJ2_add_2 0 = .ok (.iload_n 3, 1) := dk_29 (dk_at dksJ2_add_2_0 0 rfl rfl)
theorem dJ2_add_2_1 : decode cJ2_add_2 1 = .ok (.aload_n 2, 1) := dk_44 (dk_at dksJ2_add_2_0 1 rfl rfl)
theorem dJ2_add_2_2 : decode cJ2_add_2 2 = .ok (.arraylength, 1) := dk_190 (dk_at dksJ2_add_2_0 2 rfl rfl)
theorem dJ2_add_2_3 : decode cJ2_add_2 3 = .ok (.if_icmp .ne 8, 3) := dk_160 0 8 (dk_at dksJ2_add_2_0 3 rfl rfl)
theorem dJ2_add_2_6 : decode cJ2_add_2 6 = .ok (.aload_n 0, 1) := dk_42 (dk_at dksJ2_add_2_0 6 rfl rfl)
theorem dJ2_add_2_7 : decode cJ2_add_2 7 = .ok (.invokevirtual 129, 3) := dk_182 0 129 (dk_at dksJ2_add_2_0 7 rfl rfl)
theorem dJ2_add_2_10 : decode cJ2_add_2 10 = .ok (.astore_n 2, 1) := dk_77 (dk_at dksJ2_add_2_0 10 rfl rfl)
theorem dJ2_add_2_11 : decode cJ2_add_2 11 = .ok (.aload_n 2, 1) := dk_44 (dk_at dksJ2_add_2_0 11 rfl rfl)
theorem dJ2_add_2_12 : decode cJ2_add_2 12 = .ok (.iload_n 3, 1) := dk_29 (dk_at dksJ2_add_2_0 12 rfl rfl)
theorem dJ2_add_2_13 : decode cJ2_add_2 13 = .ok (.aload_n 1, 1) := dk_43 (dk_at dksJ2_add_2_0 13 rfl rfl)
theorem dJ2_add_2_14 : decode cJ2_add_2 14 = .ok (.aastore, 1) := dk_83 (dk_at dksJ2_add_2_0 14 rfl rfl)
theorem dJ2_add_2_15 : decode cJ2_add_2 15 = .ok (.aload_n 0, 1) := dk_42 (dk_at dksJ2_add_2_0 15 rfl rfl)
theorem dJ2_add_2_16 : decode cJ2_add_2 16 = .ok (.iload_n 3, 1) := dk_29 (dk_at dksJ2_add_2_0 16 rfl rfl)
theorem dJ2_add_2_17 : decode cJ2_add_2 17 = .ok (.iconst 1, 1) := dk_4 (dk_at dksJ2_add_2_0 17 rfl rfl)
theorem dJ2_add_2_18 : decode cJ2_add_2 18 = .ok (.iadd, 1) := dk_96 (dk_at dksJ2_add_2_0 18 rfl rfl)
theorem dJ2_add_2_19 : decode cJ2_add_2 19 = .ok (.putfield 48, 3) := dk_181 0 48 (dk_at dksJ2_add_2_0 19 rfl rfl)
theorem dJ2_add_2_22 : decode cJ2_add_2 22 = .ok (.return_, 1) := dk_177 (dk_at dksJ2_add_2_0 22 rfl rfl)
/-- java/util/ArrayList.add(Ljava/lang/Object;[Ljava/lang/Object;I)V -/
def zb132 (G : zPg) (C : zO) (args : List Value) (Q : zQ) (Y : zY) (σ : zS) : Prop := ∃ (a0 : Nat) (x1 : Option Nat) (x2 : Option Nat) (x3 : Int32), args = [.ref a0, va_rf x1, va_rf x2, .int x3] ∧ (zln σ 4 x2 (fun v5 => zJ (fun (p7 : Option Nat) (s8 : zS) => zsR s8 G.1 4 [0, 1, 2, 3, 4, 5, 6, 7, 8, 9, 10, 11, 12, 13, 14, 15, 16, 17, 18, 19, 20, 21, 22, 23, 24, 25, 26, 27, 28, 29, 30] p7 x3 x1 (fun s18 => zput s18 G.1 (some a0) 2 2 (.int (x3 + (1 : Int32))) (fun s20 => Q none s20))) (fun (j9 : Option Nat → zS → Prop) => ((¬ x3 = v5) → j9 x2 σ) ∧ ((x3 = v5) → zrc σ (some a0) 2 (fun a32 => zcl C 133 [.ref a32] Y σ (zqR (fun v29 s30 => j9 v29 s30)))))))
set_option maxHeartbeats 4000000 in
theorem wk132 {l : Launch} {g : zG} {d : Nat} {C : zO} (hG : zGk g) (hC : zSound l g d C) {args : List Value} {Q : zQ} {Y : zY} {σ : zS} (hw : zb132 (zpg g) C args Q Y σ) : zMet l g (d + 1) (⟨"java/util/ArrayList", "add", "(Ljava/lang/Object;[Ljava/lang/Object;I)V"⟩, Cond.code ⟨"java/util/ArrayList", "add", "(Ljava/lang/Object;[Ljava/lang/Object;I)V"⟩ prog_58_method_24_code 4 (Option.none : Option FieldType)) args σ Q Y := by
  obtain ⟨a0, x1, x2, x3, rfl, hw⟩ := hw
  refine zof hG (by decide +kernel) [false, false, false, false] ⟨rfl, (zc_rf _), (zc_rf _), rfl, trivial⟩ (Nat.le_of_ble_eq_true rfl) (ls := [some (va_rf (some a0)), some (va_rf x1), some (va_rf x2), some (.int x3)]) rfl ?_
  intro X hX hR hTb hd1 hd2 hl hg hnm
  subst hl
  subst hg
  have hd : zDep X d := ⟨hd1, hd2⟩
  refine z_iload_n hX dJ2_add_2_0 rfl (i := 3) rfl ?_
  refine z_aload_n hX dJ2_add_2_1 rfl (i := 2) rfl ?_
  obtain ⟨a1, n2, r3, m4, hw⟩ := hw
  refine z_alen hX 4 dJ2_add_2_2 r3 m4 ?_
  revert hw
  generalize nI n2.1 = v5
  intro hw
  refine zJ_w (P := fun (j : Option Nat → zS → Prop) => ∀ (p7 : Option Nat) (s8 : zS), j p7 s8 → zW X s8 11 [some (va_rf (some a0)), some (va_rf x1), some (va_rf p7), some (.int x3)] []) hw (fun p7 s8 hw => ?_) (fun j9 hj9 hw => ?_)
  · refine z_aload_n hX dJ2_add_2_11 rfl (i := 2) rfl ?_
    refine z_iload_n hX dJ2_add_2_12 rfl (i := 3) rfl ?_
    refine z_aload_n hX dJ2_add_2_13 rfl (i := 1) rfl ?_
    obtain ⟨a10, n11, f12, r13, g14, m15, i16, c17, hw⟩ := hw
    refine z_aastM hX 4 dJ2_add_2_14 rfl rfl (zfa1 ⟨_, rfl, Or.inr q3187⟩ (zfa1 ⟨_, rfl, Or.inr q3188⟩ (zfa1 ⟨_, rfl, Or.inr q3189⟩ (zfa1 ⟨_, rfl, Or.inr q3190⟩ (zfa1 ⟨_, rfl, Or.inr q3191⟩ (zfa1 ⟨_, rfl, Or.inr q3217⟩ (zfa1 ⟨_, rfl, Or.inr q3192⟩ (zfa1 ⟨_, rfl, Or.inr q3193⟩ (zfa1 ⟨_, rfl, Or.inr q3194⟩ (zfa1 ⟨_, rfl, Or.inr q3186⟩ (zfa1 ⟨_, rfl, Or.inr q3201⟩ (zfa1 ⟨_, rfl, Or.inr q3196⟩ (zfa1 ⟨_, rfl, Or.inr q3197⟩ (zfa1 ⟨_, rfl, Or.inr q3198⟩ (zfa1 ⟨_, rfl, Or.inr q3199⟩ (zfa1 ⟨_, rfl, Or.inr q3200⟩ (zfa1 ⟨_, rfl, Or.inr q3202⟩ (zfa1 ⟨_, rfl, Or.inr q3203⟩ (zfa1 ⟨_, rfl, Or.inr q3204⟩ (zfa1 ⟨_, rfl, Or.inr q3205⟩ (zfa1 ⟨_, rfl, Or.inr q3206⟩ (zfa1 ⟨_, rfl, Or.inr q3208⟩ (zfa1 ⟨_, rfl, Or.inr q3209⟩ (zfa1 ⟨_, rfl, Or.inr q3184⟩ (zfa1 ⟨_, rfl, Or.inr q3210⟩ (zfa1 ⟨_, rfl, Or.inr q3211⟩ (zfa1 ⟨_, rfl, Or.inr q3212⟩ (zfa1 ⟨_, rfl, Or.inr q3213⟩ (zfa1 ⟨_, rfl, Or.inr q3215⟩ (zfa1 ⟨_, rfl, Or.inr q3216⟩ (zfa1 ⟨_, rfl, Or.inl rfl⟩ (zfa0)))))))))))))))))))))))))))))))) r13 g14 m15 i16 c17 (z_nm (fun s18 e19 => ?_))
    have hw := hw s18 e19
    refine z_aload_n hX dJ2_add_2_15 rfl (i := 0) rfl ?_
    refine z_iload_n hX dJ2_add_2_16 rfl (i := 3) rfl ?_
    refine z_iconst hX (v := (1 : Int32)) dJ2_add_2_17 (by decide) ?_
    refine z_iadd hX dJ2_add_2_18 ?_
    obtain ⟨a22, f23, r24, g25, m26, l27, hw⟩ := hw
    refine z_put hX zc2 (k := 2) dJ2_add_2_19 (Nat.le_of_ble_eq_true rfl) (zlk hX q214) rfl rfl rfl r24 g25 m26 l27 (z_nm (fun s20 e21 => ?_))
    have hw := hw s20 e21
    exact z_return hX hR dJ2_add_2_22 hw
  · refine z_icmp_ne hX dJ2_add_2_3 (tgt := 11) rfl (fun c28 => ?_) (fun c28 => ?_)
    · have hw := hw.1 c28
      exact hj9 _ _ hw
    · have hw := hw.2 c28
      refine z_aload_n hX dJ2_add_2_6 rfl (i := 0) rfl ?_
      obtain ⟨a32, f33, r34, m35, hw⟩ := hw
      refine z_invV hX hd r34 (ci := 2) rfl rfl m35 dJ2_add_2_7 (hC 133 _ zm133 _ _ _ _ hw) q772 q774 qs12 zh5 q775 q134 zn133 rfl (Nat.le_of_ble_eq_true rfl) (st := []) rfl (zcs8 (Nat.le_of_ble_eq_true rfl)) rfl (zkR (fun v29 s30 hw => ?_)) (zout hX hR hTb)
      refine z_astore_n hX dJ2_add_2_10 rfl (i := 2) (Nat.le_of_ble_eq_true rfl) (zc_rf _) (ls2 := [some (va_rf (some a0)), some (va_rf x1), some (va_rf v29), some (.int x3)]) rfl ?_
      exact hj9 _ _ hw
abbrev cJ2_grow : ByteArray := prog_58_method_7_code
def yJ2_grow : MethodName := ⟨RJ2, "grow", "()[Ljava/lang/Object;"⟩
def dkwJ2_grow_0 : List UInt8 := [42, 42, 180, 0, 48, 4, 96, 182, 0, 69, 176]
abbrev dktJ2_grow_0 : List UInt8 := dkwJ2_grow_0 ++ []
theorem dksJ2_grow_0 : cJ2_grow.data.toList.drop 0 = dktJ2_grow_0 := by decide +kernel
theorem dJ2_grow_0 : decode cJ2_grow 0 = .ok (.aload_n 0, 1) := dk_42 (dk_at dksJ2_grow_0 0 rfl rfl)
theorem dJ2_grow_1 : decode cJ2_grow 1 = .ok (.aload_n 0, 1) := dk_42 (dk_at dksJ2_grow_0 1 rfl rfl)
theorem dJ2_grow_2 : decode cJ2_grow 2 = .ok (.getfield 48, 3) := dk_180 0 48 (dk_at dksJ2_grow_0 2 rfl rfl)
theorem dJ2_grow_5 : decode cJ2_grow 5 = .ok (.iconst 1, 1) := dk_4 (dk_at dksJ2_grow_0 5 rfl rfl)
theorem dJ2_grow_6 : decode cJ2_grow 6 = .ok (.iadd, 1) := dk_96 (dk_at dksJ2_grow_0 6 rfl rfl)
theorem dJ2_grow_7 : decode cJ2_grow 7 = .ok (.invokevirtual 69, 3) := dk_182 0 69 (dk_at dksJ2_grow_0 7 rfl rfl)
theorem dJ2_grow_10 : decode cJ2_grow 10 = .ok (.areturn, 1) := dk_176 (dk_at dksJ2_grow_0 10 rfl rfl)
/-- java/util/ArrayList.grow()[Ljava/lang/Object; -/
def zb133 (G : zPg) (C : zO) (args : List Value) (Q : zQ) (Y : zY) (σ : zS) : Prop := ∃ (a0 : Nat), args = [.ref a0] ∧ (zgI σ (some a0) 2 2 (fun v1 => zrc σ (some a0) 2 (fun a10 => zcl C 134 [.ref a10, .int (v1 + (1 : Int32))] Y σ (zqR (fun v7 s8 => Q (some (va_rf v7)) s8)))))
set_option maxHeartbeats 4000000 in
theorem wk133 {l : Launch} {g : zG} {d : Nat} {C : zO} (hG : zGk g) (hC : zSound l g d C) {args : List Value} {Q : zQ} {Y : zY} {σ : zS} (hw : zb133 (zpg g) C args Q Y σ) : zMet l g (d + 1) (⟨"java/util/ArrayList", "grow", "()[Ljava/lang/Object;"⟩, Cond.code ⟨"java/util/ArrayList", "grow", "()[Ljava/lang/Object;"⟩ prog_58_method_7_code 1 (Option.some (FieldType.array (FieldType.object "java/lang/Object")))) args σ Q Y := by
  obtain ⟨a0, rfl, hw⟩ := hw
  refine zof hG (by decide +kernel) [false] ⟨rfl, trivial⟩ (Nat.le_of_ble_eq_true rfl) (ls := [some (va_rf (some a0))]) rfl ?_
  intro X hX hR hTb hd1 hd2 hl hg hnm
  subst hl
  subst hg
  have hd : zDep X d := ⟨hd1, hd2⟩
  refine z_aload_n hX dJ2_grow_0 rfl (i := 0) rfl ?_
  refine z_aload_n hX dJ2_grow_1 rfl (i := 0) rfl ?_
  obtain ⟨a2, f3, v1, r4, m5, e6, hw⟩ := hw
  refine z_get hX zc2 (k := 2) dJ2_grow_2 (Nat.le_of_ble_eq_true rfl) (zlk hX q214) r4 m5 e6 ?_
  refine z_iconst hX (v := (1 : Int32)) dJ2_grow_5 (by decide) ?_
  refine z_iadd hX dJ2_grow_6 ?_
  obtain ⟨a10, f11, r12, m13, hw⟩ := hw
  refine z_invV hX hd r12 (ci := 2) rfl rfl m13 dJ2_grow_7 (hC 134 _ zm134 _ _ _ _ hw) q776 q778 qs13 zh5 q779 q134 zn134 rfl (Nat.le_of_ble_eq_true rfl) (st := []) rfl (zcs8 (Nat.le_of_ble_eq_true rfl)) rfl (zkR (fun v7 s8 hw => ?_)) (zout hX hR hTb)
  exact z_areturn hX hR dJ2_grow_10 (Or.inr ⟨_, rfl⟩) hw
abbrev cJ2_grow_2 : ByteArray := prog_58_method_6_code
def yJ2_grow_2 : MethodName := ⟨RJ2, "grow", "(I)[Ljava/lang/Object;"⟩
def dkwJ2_grow_2_2 : List UInt8 := [27, 184, 0, 79, 189, 0, 7, 90, 181, 0, 9, 176]
abbrev dktJ2_grow_2_2 : List UInt8 := dkwJ2_grow_2_2 ++ []
def dkwJ2_grow_2_1 : List UInt8 := [28, 4, 122, 184, 0, 73, 62, 42, 42, 180, 0, 9, 29, 184, 0, 66, 90, 181, 0, 9, 176, 42, 16, 10]
abbrev dktJ2_grow_2_1 : List UInt8 := dkwJ2_grow_2_1 ++ dktJ2_grow_2_2
def dkwJ2_grow_2_0 : List UInt8 := [42, 180, 0, 9, 190, 61, 28, 157, 0, 13, 42, 180, 0, 9, 178, 0, 39, 165, 0, 28, 28, 27, 28, 100]
abbrev dktJ2_grow_2_0 : List UInt8 := dkwJ2_grow_2_0 ++ dktJ2_grow_2_1
theorem dksJ2_grow_2_0 : cJ2_grow_2.data.toList.drop 0 = dktJ2_grow_2_0 := by decide +kernel
theorem dksJ2_grow_2_1 : cJ2_grow_2.data.toList.drop 24 = dktJ2_grow_2_1 := dk_seg dksJ2_grow_2_0 24 rfl rfl
theorem dksJ2_grow_2_2 : cJ2_grow_2.data.toList.drop 48 = dktJ2_grow_2_2 := dk_seg dksJ2_grow_2_1 24 rfl rfl
theorem dJ2_grow_2_0 : decode cJ2_grow_2 0 = .ok (.aload_n 0, 1) := dk_42 (dk_at dksJ2_grow_2_0 0 rfl rfl)
theorem dJ2_grow_2_1 : decode cJ2_grow_2 1 = .ok (.getfield 9, 3) := dk_180 0 9 (dk_at dksJ2_grow_2_0 1 rfl rfl)
theorem dJ2_grow_2_4 : decode cJ2_grow_2 4 = .ok (.arraylength, 1) := dk_190 (dk_at dksJ2_grow_2_0 4 rfl rfl)
theorem dJ2_grow_2_5 : decode cJ2_grow_2 5 = .ok (.istore_n 2, 1) := dk_61 (dk_at dksJ2_grow_2_0 5 rfl rfl)
theorem dJ2_grow_2_6 : decode cJ2_grow_2 6 = .ok (.iload_n 2, 1) := dk_28 (dk_at dksJ2_grow_2_0 6 rfl rfl)
theorem dJ2_grow_2_7 : decode cJ2_grow_2 7 = .ok (.ifCond .gt 13, 3) := dk_157 0 13 (dk_at dksJ2_grow_2_0 7 rfl rfl)
theorem dJ2_grow_2_10 : decode cJ2_grow_2 10 = .ok (.aload_n 0, 1) := dk_42 (dk_at dksJ2_grow_2_0 10 rfl rfl)
theorem dJ2_grow_2_11 : decode cJ2_grow_2 11 = .ok (.getfield 9, 3) := dk_180 0 9 (dk_at dksJ2_grow_2_0 11 rfl rfl)
theorem dJ2_grow_2_14 : decode cJ2_grow_2 14 = .ok (.getstatic 39, 3) := dk_178 0 39 (dk_at dksJ2_grow_2_0 14 rfl rfl)
theorem dJ2_grow_2_17 : decode cJ2_grow_2 17 = .ok (.if_acmp .eq 28, 3) := dk_165 0 28 (dk_at dksJ2_grow_2_0 17 rfl rfl)
theorem dJ2_grow_2_20 : decode cJ2_grow_2 20 = .ok (.iload_n 2, 1) := dk_28 (dk_at dksJ2_grow_2_0 20 rfl rfl)
theorem dJ2_grow_2_21 : decode cJ2_grow_2 21 = .ok (.iload_n 1, 1) := dk_27 (dk_at dksJ2_grow_2_0 21 rfl rfl)
theorem dJ2_grow_2_22 : decode cJ2_grow_2 22 = .ok (.iload_n 2, 1) := dk_28 (dk_at dksJ2_grow_2_0 22 rfl rfl)
theorem dJ2_grow_2_23 : decode cJ2_grow_2 23 = .ok (.isub, 1) := dk_100 (dk_at dksJ2_grow_2_0 23 rfl rfl)
theorem dJ2_grow_2_24 : decode cJ2_grow_2 24 = .ok (.iload_n 2, 1) := dk_28 (dk_at dksJ2_grow_2_1 0 rfl rfl)
theorem dJ2_grow_2_25 : decode cJ2_grow_2 25 = .ok (.iconst 1, 1) := dk_4 (dk_at dksJ2_grow_2_1 1 rfl rfl)
theorem dJ2_grow_2_26 : decode cJ2_grow_2 26 = .ok (.ishr, 1) := dk_122 (dk_at dksJ2_grow_2_1 2 rfl rfl)
theorem dJ2_grow_2_27 : decode cJ2_grow_2 27 = .ok (.invokestatic 73, 3) := dk_184 0 73 (dk_at dksJ2_grow_2_1 3 rfl rfl)
theorem dJ2_grow_2_30 : decode cJ2_grow_2 30 = .ok (.istore_n 3, 1) := dk_62 (dk_at dksJ2_grow_2_1 6 rfl rfl)
theorem dJ2_grow_2_31 : decode cJ2_grow_2 31 = .ok (.aload_n 0, 1) := dk_42 (dk_at dksJ2_grow_2_1 7 rfl rfl)
theorem dJ2_grow_2_32 : decode cJ2_grow_2 32 = .ok (.aload_n 0, 1) := dk_42 (dk_at dksJ2_grow_2_1 8 rfl rfl)
theorem dJ2_grow_2_33 : decode cJ2_grow_2 33 = .ok (.getfield 9, 3) := dk_180 0 9 (dk_at dksJ2_grow_2_1 9 rfl rfl)
theorem dJ2_grow_2_36 : decode cJ2_grow_2 36 = .ok (.iload_n 3, 1) := dk_29 (dk_at dksJ2_grow_2_1 12 rfl rfl)
theorem dJ2_grow_2_37 : decode cJ2_grow_2 37 = .ok (.invokestatic 66, 3) := dk_184 0 66 (dk_at dksJ2_grow_2_1 13 rfl rfl)
theorem dJ2_grow_2_40 : decode cJ2_grow_2 40 = .ok (.dup_x1, 1) := dk_90 (dk_at dksJ2_grow_2_1 16 rfl rfl)
theorem dJ2_grow_2_41 : decode cJ2_grow_2 41 = .ok (.putfield 9, 3) := dk_181 0 9 (dk_at dksJ2_grow_2_1 17 rfl rfl)
theorem dJ2_grow_2_44 : decode cJ2_grow_2 44 = .ok (.areturn, 1) := dk_176 (dk_at dksJ2_grow_2_1 20 rfl rfl)
theorem dJ2_grow_2_45 : decode cJ2_grow_2 45 = .ok (.aload_n 0, 1) := dk_42 (dk_at dksJ2_grow_2_1 21 rfl rfl)
theorem dJ2_grow_2_46 : decode cJ2_grow_2 46 = .ok (.bipush 10, 2) := dk_16 10 (dk_at dksJ2_grow_2_1 22 rfl rfl)
theorem dJ2_grow_2_48 : decode cJ2_grow_2 48 = .ok (.iload_n 1, 1) := dk_27 (dk_at dksJ2_grow_2_2 0 rfl rfl)
theorem dJ2_grow_2_49 : decode cJ2_grow_2 49 = .ok (.invokestatic 79, 3) := dk_184 0 79 (dk_at dksJ2_grow_2_2 1 rfl rfl)
theorem dJ2_grow_2_52 : decode cJ2_grow_2 52 = .ok (.anewarray 7, 3) := dk_189 0 7 (dk_at dksJ2_grow_2_2 4 rfl rfl)
theorem dJ2_grow_2_55 : decode cJ2_grow_2 55 = .ok (.dup_x1, 1) := dk_90 (dk_at dksJ2_grow_2_2 7 rfl rfl)
theorem dJ2_grow_2_56 : decode cJ2_grow_2 56 = .ok (.putfield 9, 3) := dk_181 0 9 (dk_at dksJ2_grow_2_2 8 rfl rfl)
theorem dJ2_grow_2_59 : decode cJ2_grow_2 59 = .ok (.areturn, 1) := dk_176 (dk_at dksJ2_grow_2_2 11 rfl rfl)
/-- java/util/ArrayList.grow(I)[Ljava/lang/Object; -/
def zb134 (G : zPg) (C : zO) (args : List Value) (Q : zQ) (Y : zY) (σ : zS) : Prop := ∃ (a0 : Nat) (x1 : Int32), args = [.ref a0, .int x1] ∧ (zgR σ (some a0) 2 1 (fun v1 => zln σ 4 v1 (fun v11 => zJ (fun  (s13 : zS) => zcl C 395 [.int v11, .int (x1 - v11), .int (v11 >>> ((1 : Int32) &&& 31))] Y s13 (zqI (fun v15 s16 => zgR s16 (some a0) 2 1 (fun v18 => zcl C 406 [va_rf v18, .int v15] Y s16 (zqR (fun v24 s25 => zput s25 G.1 (some a0) 2 1 (va_rf v24) (fun s27 => Q (some (va_rf v24)) s27))))))) (fun (j14 : zS → Prop) => ((0 < v11) → j14 σ) ∧ ((¬ 0 < v11) → zgR σ (some a0) 2 1 (fun v36 => ((v36 = (some (G.2 54))) → zcl C 297 [.int (10 : Int32), .int x1] Y σ (zqI (fun v43 s44 => znewA s44 4 v43 (.inr (.inr (.inr (.inr (fun _ => none))))) (fun s46 => zput s46 G.1 (some a0) 2 1 (va_rf (some s44.2.1)) (fun s49 => Q (some (va_rf (some s44.2.1))) s49))))) ∧ ((¬ v36 = (some (G.2 54))) → j14 σ)))))))
set_option maxHeartbeats 4000000 in
theorem wk134 {l : Launch} {g : zG} {d : Nat} {C : zO} (hG : zGk g) (hC : zSound l g d C) {args : List Value} {Q : zQ} {Y : zY} {σ : zS} (hw : zb134 (zpg g) C args Q Y σ) : zMet l g (d + 1) (⟨"java/util/ArrayList", "grow", "(I)[Ljava/lang/Object;"⟩, Cond.code ⟨"java/util/ArrayList", "grow", "(I)[Ljava/lang/Object;"⟩ prog_58_method_6_code 4 (Option.some (FieldType.array (FieldType.object "java/lang/Object")))) args σ Q Y := by
  obtain ⟨a0, x1, rfl, hw⟩ := hw
  refine zof hG (by decide +kernel) [false, false] ⟨rfl, rfl, trivial⟩ (Nat.le_of_ble_eq_true rfl) (ls := [some (va_rf (some a0)), some (.int x1), none, none]) rfl ?_
  intro X hX hR hTb hd1 hd2 hl hg hnm
  subst hl
  subst hg
  have hd : zDep X d := ⟨hd1, hd2⟩
  refine z_aload_n hX dJ2_grow_2_0 rfl (i := 0) rfl ?_
  obtain ⟨a2, f3, v1, r4, m5, e6, hw⟩ := hw
  refine z_get hX zc2 (k := 1) dJ2_grow_2_1 (Nat.le_of_ble_eq_true rfl) (zlk hX q213) r4 m5 e6 ?_
  obtain ⟨a7, n8, r9, m10, hw⟩ := hw
  refine z_alen hX 4 dJ2_grow_2_4 r9 m10 ?_
  revert hw
  generalize nI n8.1 = v11
  intro hw
  refine z_istore_n hX dJ2_grow_2_5 rfl (i := 2) (Nat.le_of_ble_eq_true rfl) rfl (ls2 := [some (va_rf (some a0)), some (.int x1), some (.int v11), none]) rfl ?_
  refine z_iload_n hX dJ2_grow_2_6 rfl (i := 2) rfl ?_
  refine zJ_w (P := fun (j : zS → Prop) => ∀  (s13 : zS), j  s13 → zW X s13 20 [some (va_rf (some a0)), some (.int x1), some (.int v11), none] []) hw (fun  s13 hw => ?_) (fun j14 hj14 hw => ?_)
  · refine z_iload_n hX dJ2_grow_2_20 rfl (i := 2) rfl ?_
    refine z_iload_n hX dJ2_grow_2_21 rfl (i := 1) rfl ?_
    refine z_iload_n hX dJ2_grow_2_22 rfl (i := 2) rfl ?_
    refine z_isub hX dJ2_grow_2_23 ?_
    refine z_iload_n hX dJ2_grow_2_24 rfl (i := 2) rfl ?_
    refine z_iconst hX (v := (1 : Int32)) dJ2_grow_2_25 (by decide) ?_
    refine z_ishr hX dJ2_grow_2_26 ?_
    refine z_invS hX hd dJ2_grow_2_27 (hC 395 _ zm395 _ _ _ _ hw) q780 q781 zh19 q782 q148 zn395 rfl (Nat.le_of_ble_eq_true rfl) (st := []) rfl (zcs8 (Nat.le_of_ble_eq_true rfl)) rfl (zkI (fun v15 s16 hw => ?_)) (zout hX hR hTb)
    refine z_istore_n hX dJ2_grow_2_30 rfl (i := 3) (Nat.le_of_ble_eq_true rfl) rfl (ls2 := [some (va_rf (some a0)), some (.int x1), some (.int v11), some (.int v15)]) rfl ?_
    refine z_aload_n hX dJ2_grow_2_31 rfl (i := 0) rfl ?_
    refine z_aload_n hX dJ2_grow_2_32 rfl (i := 0) rfl ?_
    obtain ⟨a19, f20, v18, r21, m22, e23, hw⟩ := hw
    refine z_get hX zc2 (k := 1) dJ2_grow_2_33 (Nat.le_of_ble_eq_true rfl) (zlk hX q213) r21 m22 e23 ?_
    refine z_iload_n hX dJ2_grow_2_36 rfl (i := 3) rfl ?_
    refine z_invS hX hd dJ2_grow_2_37 (hC 406 _ zm406 _ _ _ _ hw) q788 q789 zh20 q790 q149 zn406 rfl (Nat.le_of_ble_eq_true rfl) (st := [va_rf (some a0)]) rfl (zcs8 (Nat.le_of_ble_eq_true rfl)) rfl (zkR (fun v24 s25 hw => ?_)) (zout hX hR hTb)
    refine z_dup_x1 hX dJ2_grow_2_40 (zc_rf _) (zc_rf _) ?_
    obtain ⟨a29, f30, r31, g32, m33, l34, hw⟩ := hw
    refine z_put hX zc2 (k := 1) dJ2_grow_2_41 (Nat.le_of_ble_eq_true rfl) (zlk hX q213) rfl (zn_a _ _) (zf_a _ _) r31 g32 m33 l34 (z_nm (fun s27 e28 => ?_))
    have hw := hw s27 e28
    exact z_areturn hX hR dJ2_grow_2_44 (Or.inr ⟨_, rfl⟩) hw
  · refine z_if_gt hX dJ2_grow_2_7 (tgt := 20) rfl (fun c35 => ?_) (fun c35 => ?_)
    · have hw := hw.1 c35
      exact hj14  _ hw
    · have hw := hw.2 c35
      refine z_aload_n hX dJ2_grow_2_10 rfl (i := 0) rfl ?_
      obtain ⟨a37, f38, v36, r39, m40, e41, hw⟩ := hw
      refine z_get hX zc2 (k := 1) dJ2_grow_2_11 (Nat.le_of_ble_eq_true rfl) (zlk hX q213) r39 m40 e41 ?_
      refine z_gets hX dJ2_grow_2_14 (List.mem_of_getElem? (i := 4) rfl) q211 rfl ?_
      show zW _ _ _ _ (va_rf (some (X.g.2.2.2 54)) :: _)
      refine z_acmp_eq hX dJ2_grow_2_17 (tgt := 45) rfl (fun c42 => ?_) (fun c42 => ?_)
      · have hw := hw.1 c42
        refine z_aload_n hX dJ2_grow_2_45 rfl (i := 0) rfl ?_
        refine z_bipush hX (v := (10 : Int32)) dJ2_grow_2_46 (by decide) ?_
        refine z_iload_n hX dJ2_grow_2_48 rfl (i := 1) rfl ?_
        refine z_invS hX hd dJ2_grow_2_49 (hC 297 _ zm297 _ _ _ _ hw) q836 q710 zh8 q711 q137 zn297 rfl (Nat.le_of_ble_eq_true rfl) (st := [va_rf (some a0)]) rfl (zcs8 (Nat.le_of_ble_eq_true rfl)) rfl (zkI (fun v43 s44 hw => ?_)) (zout hX hR hTb)
        refine z_anew hX 4 dJ2_grow_2_52 q837 q295 rfl rfl hw.1 hw.2.1 hw.2.2.1 hw.2.2.2.1 (fun z47 => z_nm (fun s46 e48 => ?_))
        have hw := hw.2.2.2.2 z47 s46 e48
        refine z_dup_x1 hX dJ2_grow_2_55 (zc_rf _) (zc_rf _) ?_
        obtain ⟨a51, f52, r53, g54, m55, l56, hw⟩ := hw
        refine z_put hX zc2 (k := 1) dJ2_grow_2_56 (Nat.le_of_ble_eq_true rfl) (zlk hX q213) rfl (zn_a _ _) (zf_a _ _) r53 g54 m55 l56 (z_nm (fun s49 e50 => ?_))
        have hw := hw s49 e50
        exact z_areturn hX hR dJ2_grow_2_59 (Or.inr ⟨_, rfl⟩) hw
      · have hw := hw.2 c42
        exact hj14  _ hw
abbrev cJ2_set : ByteArray := prog_58_method_23_code
def yJ2_set : MethodName := ⟨RJ2, "set", "(ILjava/lang/Object;)Ljava/lang/Object;"⟩
def dkwJ2_set_0 : List UInt8 := [27, 42, 180, 0, 48, 184, 0, 118, 87, 42, 27, 182, 0, 123, 78, 42, 180, 0, 9, 27, 44, 83, 45, 176]
abbrev dktJ2_set_0 : List UInt8 := dkwJ2_set_0 ++ []
theorem dksJ2_set_0 : cJ2_set.data.toList.drop 0 = dktJ2_set_0 := by decide +kernel
theorem dJ2_set_0 : decode cJ2_set 0 = .ok (.iload_n 1, 1) := dk_27 (dk_at dksJ2_set_0 0 rfl rfl)
theorem dJ2_set_1 : decode cJ2_set 1 = .ok (.aload_n 0, 1) := dk_42 (dk_at dksJ2_set_0 1 rfl rfl)
theorem dJ2_set_2 : decode cJ2_set 2 = .ok (.getfield 48, 3) := dk_180 0 48 (dk_at dksJ2_set_0 2 rfl rfl)
theorem dJ2_set_5 : decode cJ2_set 5 = .ok (.invokestatic 118, 3) := dk_184 0 118 (dk_at dksJ2_set_0 5 rfl rfl)
theorem dJ2_set_8 : decode cJ2_set 8 = .ok (.pop, 1) := dk_87 (dk_at dksJ2_set_0 8 rfl rfl)
theorem dJ2_set_9 : decode cJ2_set 9 = .ok (.aload_n 0, 1) := dk_42 (dk_at dksJ2_set_0 9 rfl rfl)
theorem dJ2_set_10 : decode cJ2_set 10 = .ok (.iload_n 1, 1) := dk_27 (dk_at dksJ2_set_0 10 rfl rfl)
theorem dJ2_set_11 : decode cJ2_set 11 = .ok (.invokevirtual 123, 3) := dk_182 0 123 (dk_at dksJ2_set_0 11 rfl rfl)
theorem dJ2_set_14 : decode cJ2_set 14 = .ok (.astore_n 3, 1) := dk_78 (dk_at dksJ2_set_0 14 rfl rfl)
theorem dJ2_set_15 : decode cJ2_set 15 = .ok (.aload_n 0, 1) := dk_42 (dk_at dksJ2_set_0 15 rfl rfl)
theorem dJ2_set_16 : decode cJ2_set 16 = .ok (.getfield 9, 3) := dk_180 0 9 (dk_at dksJ2_set_0 16 rfl rfl)
theorem dJ2_set_19 : decode cJ2_set 19 = .ok (.iload_n 1, 1) := dk_27 (dk_at dksJ2_set_0 19 rfl rfl)
theorem dJ2_set_20 : decode cJ2_set 20 = .ok (.aload_n 2, 1) := dk_44 (dk_at dksJ2_set_0 20 rfl rfl)
theorem dJ2_set_21 : decode cJ2_set 21 = .ok (.aastore, 1) := dk_83 (dk_at dksJ2_set_0 21 rfl rfl)
theorem dJ2_set_22 : decode cJ2_set 22 = .ok (.aload_n 3, 1) := dk_45 (dk_at dksJ2_set_0 22 rfl rfl)
theorem dJ2_set_23 : decode cJ2_set 23 = .ok (.areturn, 1) := dk_176 (dk_at dksJ2_set_0 23 rfl rfl)
/-- java/util/ArrayList.set(ILjava/lang/Object;)Ljava/lang/Object; -/
def zb135 (G : zPg) (C : zO) (args : List Value) (Q : zQ) (Y : zY) (σ : zS) : Prop := ∃ (a0 : Nat) (x1 : Int32) (x2 : Option Nat), args = [.ref a0, .int x1, va_rf x2] ∧ (zgI σ (some a0) 2 2 (fun v1 => zcl C 454 [.int x1, .int v1] Y σ (zqI (fun v7 s8 => zrc s8 (some a0) 2 (fun a13 => zcl C 130 [.ref a13, .int x1] Y s8 (zqR (fun v10 s11 => zgR s11 (some a0) 2 1 (fun v17 => zsR s11 G.1 4 [0, 1, 2, 3, 4, 5, 6, 7, 8, 9, 10, 11, 12, 13, 14, 15, 16, 17, 18, 19, 20, 21, 22, 23, 24, 25, 26, 27, 28, 29, 30] v17 x1 x2 (fun s31 => Q (some (va_rf v10)) s31)))))))))
set_option maxHeartbeats 4000000 in
theorem wk135 {l : Launch} {g : zG} {d : Nat} {C : zO} (hG : zGk g) (hC : zSound l g d C) {args : List Value} {Q : zQ} {Y : zY} {σ : zS} (hw : zb135 (zpg g) C args Q Y σ) : zMet l g (d + 1) (⟨"java/util/ArrayList", "set", "(ILjava/lang/Object;)Ljava/lang/Object;"⟩, Cond.code ⟨"java/util/ArrayList", "set", "(ILjava/lang/Object;)Ljava/lang/Object;"⟩ prog_58_method_23_code 4 (Option.some (FieldType.object "java/lang/Object"))) args σ Q Y := by
  obtain ⟨a0, x1, x2, rfl, hw⟩ := hw
  refine zof hG (by decide +kernel) [false, false, false] ⟨rfl, rfl, (zc_rf _), trivial⟩ (Nat.le_of_ble_eq_true rfl) (ls := [some (va_rf (some a0)), some (.int x1), some (va_rf x2), none]) rfl ?_
  intro X hX hR hTb hd1 hd2 hl hg hnm
  subst hl
  subst hg
  have hd : zDep X d := ⟨hd1, hd2⟩
  refine z_iload_n hX dJ2_set_0 rfl (i := 1) rfl ?_
  refine z_aload_n hX dJ2_set_1 rfl (i := 0) rfl ?_
  obtain ⟨a2, f3, v1, r4, m5, e6, hw⟩ := hw
  refine z_get hX zc2 (k := 2) dJ2_set_2 (Nat.le_of_ble_eq_true rfl) (zlk hX q214) r4 m5 e6 ?_
  refine z_invS hX hd dJ2_set_5 (hC 454 _ zm454 _ _ _ _ hw) q375 q376 zh31 q377 q162 zn454 rfl (Nat.le_of_ble_eq_true rfl) (st := []) rfl (zcs8 (Nat.le_of_ble_eq_true rfl)) rfl (zkI (fun v7 s8 hw => ?_)) (zout hX hR hTb)
  refine z_pop hX dJ2_set_8 rfl ?_
  refine z_aload_n hX dJ2_set_9 rfl (i := 0) rfl ?_
  refine z_iload_n hX dJ2_set_10 rfl (i := 1) rfl ?_
  obtain ⟨a13, f14, r15, m16, hw⟩ := hw
  refine z_invV hX hd r15 (ci := 2) rfl rfl m16 dJ2_set_11 (hC 130 _ zm130 _ _ _ _ hw) q381 q382 q383 zh5 q384 q134 zn130 rfl (Nat.le_of_ble_eq_true rfl) (st := []) rfl (zcs8 (Nat.le_of_ble_eq_true rfl)) rfl (zkR (fun v10 s11 hw => ?_)) (zout hX hR hTb)
  refine z_astore_n hX dJ2_set_14 rfl (i := 3) (Nat.le_of_ble_eq_true rfl) (zc_rf _) (ls2 := [some (va_rf (some a0)), some (.int x1), some (va_rf x2), some (va_rf v10)]) rfl ?_
  refine z_aload_n hX dJ2_set_15 rfl (i := 0) rfl ?_
  obtain ⟨a18, f19, v17, r20, m21, e22, hw⟩ := hw
  refine z_get hX zc2 (k := 1) dJ2_set_16 (Nat.le_of_ble_eq_true rfl) (zlk hX q213) r20 m21 e22 ?_
  refine z_iload_n hX dJ2_set_19 rfl (i := 1) rfl ?_
  refine z_aload_n hX dJ2_set_20 rfl (i := 2) rfl ?_
  obtain ⟨a23, n24, f25, r26, g27, m28, i29, c30, hw⟩ := hw
  refine z_aastM hX 4 dJ2_set_21 rfl rfl (zfa1 ⟨_, rfl, Or.inr q3187⟩ (zfa1 ⟨_, rfl, Or.inr q3188⟩ (zfa1 ⟨_, rfl, Or.inr q3189⟩ (zfa1 ⟨_, rfl, Or.inr q3190⟩ (zfa1 ⟨_, rfl, Or.inr q3191⟩ (zfa1 ⟨_, rfl, Or.inr q3217⟩ (zfa1 ⟨_, rfl, Or.inr q3192⟩ (zfa1 ⟨_, rfl, Or.inr q3193⟩ (zfa1 ⟨_, rfl, Or.inr q3194⟩ (zfa1 ⟨_, rfl, Or.inr q3186⟩ (zfa1 ⟨_, rfl, Or.inr q3201⟩ (zfa1 ⟨_, rfl, Or.inr q3196⟩ (zfa1 ⟨_, rfl, Or.inr q3197⟩ (zfa1 ⟨_, rfl, Or.inr q3198⟩ (zfa1 ⟨_, rfl, Or.inr q3199⟩ (zfa1 ⟨_, rfl, Or.inr q3200⟩ (zfa1 ⟨_, rfl, Or.inr q3202⟩ (zfa1 ⟨_, rfl, Or.inr q3203⟩ (zfa1 ⟨_, rfl, Or.inr q3204⟩ (zfa1 ⟨_, rfl, Or.inr q3205⟩ (zfa1 ⟨_, rfl, Or.inr q3206⟩ (zfa1 ⟨_, rfl, Or.inr q3208⟩ (zfa1 ⟨_, rfl, Or.inr q3209⟩ (zfa1 ⟨_, rfl, Or.inr q3184⟩ (zfa1 ⟨_, rfl, Or.inr q3210⟩ (zfa1 ⟨_, rfl, Or.inr q3211⟩ (zfa1 ⟨_, rfl, Or.inr q3212⟩ (zfa1 ⟨_, rfl, Or.inr q3213⟩ (zfa1 ⟨_, rfl, Or.inr q3215⟩ (zfa1 ⟨_, rfl, Or.inr q3216⟩ (zfa1 ⟨_, rfl, Or.inl rfl⟩ (zfa0)))))))))))))))))))))))))))))))) r26 g27 m28 i29 c30 (z_nm (fun s31 e32 => ?_))
  have hw := hw s31 e32
  refine z_aload_n hX dJ2_set_22 rfl (i := 3) rfl ?_
  exact z_areturn hX hR dJ2_set_23 (Or.inl ⟨_, rfl⟩) hw
abbrev cJ2_remove : ByteArray := prog_58_method_29_code
def yJ2_remove : MethodName := ⟨RJ2, "remove", "(I)Ljava/lang/Object;"⟩
def dkwJ2_remove_1 : List UInt8 := [45, 176]
abbrev dktJ2_remove_1 : List UInt8 := dkwJ2_remove_1 ++ []
def dkwJ2_remove_0 : List UInt8 := [27, 42, 180, 0, 48, 184, 0, 118, 87, 42, 180, 0, 9, 77, 44, 27, 50, 78, 42, 44, 27, 182, 0, 144]
abbrev dktJ2_remove_0 : List UInt8 := dkwJ2_remove_0 ++ dktJ2_remove_1
theorem dksJ2_remove_0 : cJ2_remove.data.toList.drop 0 = dktJ2_remove_0 := by decide +kernel
theorem dksJ2_remove_1 : cJ2_remove.data.toList.drop 24 = dktJ2_remove_1 := dk_seg dksJ2_remove_0 24 rfl rfl
theorem dJ2_remove_0 : decode cJ2_remove 0 = .ok (.iload_n 1, 1) := dk_27 (dk_at dksJ2_remove_0 0 rfl rfl)
theorem dJ2_remove_1 : decode cJ2_remove 1 = .ok (.aload_n 0, 1) := dk_42 (dk_at dksJ2_remove_0 1 rfl rfl)
theorem dJ2_remove_2 : decode cJ2_remove 2 = .ok (.getfield 48, 3) := dk_180 0 48 (dk_at dksJ2_remove_0 2 rfl rfl)
theorem dJ2_remove_5 : decode cJ2_remove 5 = .ok (.invokestatic 118, 3) := dk_184 0 118 (dk_at dksJ2_remove_0 5 rfl rfl)
theorem dJ2_remove_8 : decode cJ2_remove 8 = .ok (.pop, 1) := dk_87 (dk_at dksJ2_remove_0 8 rfl rfl)
theorem dJ2_remove_9 : decode cJ2_remove 9 = .ok (.aload_n 0, 1) := dk_42 (dk_at dksJ2_remove_0 9 rfl rfl)
theorem dJ2_remove_10 : decode cJ2_remove 10 = .ok (.getfield 9, 3) := dk_180 0 9 (dk_at dksJ2_remove_0 10 rfl rfl)
theorem dJ2_remove_13 : decode cJ2_remove 13 = .ok (.astore_n 2, 1) := dk_77 (dk_at dksJ2_remove_0 13 rfl rfl)
theorem dJ2_remove_14 : decode cJ2_remove 14 = .ok (.aload_n 2, 1) := dk_44 (dk_at dksJ2_remove_0 14 rfl rfl)
theorem dJ2_remove_15 : decode cJ2_remove 15 = .ok (.iload_n 1, 1) := dk_27 (dk_at dksJ2_remove_0 15 rfl rfl)
theorem dJ2_remove_16 : decode cJ2_remove 16 = .ok (.aaload, 1) := dk_50 (dk_at dksJ2_remove_0 16 rfl rfl)
theorem dJ2_remove_17 : decode cJ2_remove 17 = .ok (.astore_n 3, 1) := dk_78 (dk_at dksJ2_remove_0 17 rfl rfl)
theorem dJ2_remove_18 : decode cJ2_remove 18 = .ok (.aload_n 0, 1) := dk_42 (dk_at dksJ2_remove_0 18 rfl rfl)
theorem dJ2_remove_19 : decode cJ2_remove 19 = .ok (.aload_n 2, 1) := dk_44 (dk_at dksJ2_remove_0 19 rfl rfl)
theorem dJ2_remove_20 : decode cJ2_remove 20 = .ok (.iload_n 1, 1) := dk_27 (dk_at dksJ2_remove_0 20 rfl rfl)
theorem dJ2_remove_21 : decode cJ2_remove 21 = .ok (.invokevirtual 144, 3) := dk_182 0 144 (dk_at dksJ2_remove_0 21 rfl rfl)
theorem dJ2_remove_24 : decode cJ2_remove 24 = .ok (.aload_n 3, 1) := dk_45 (dk_at dksJ2_remove_1 0 rfl rfl)
theorem dJ2_remove_25 : decode cJ2_remove 25 = .ok (.areturn, 1) := dk_176 (dk_at dksJ2_remove_1 1 rfl rfl)
/-- java/util/ArrayList.remove(I)Ljava/lang/Object; -/
def zb136 (G : zPg) (C : zO) (args : List Value) (Q : zQ) (Y : zY) (σ : zS) : Prop := ∃ (a0 : Nat) (x1 : Int32), args = [.ref a0, .int x1] ∧ (zgI σ (some a0) 2 2 (fun v1 => zcl C 454 [.int x1, .int v1] Y σ (zqI (fun v7 s8 => zgR s8 (some a0) 2 1 (fun v10 => zaR s8 4 v10 x1 (fun v22 => zrc s8 (some a0) 2 (fun a27 => zcl C 137 [.ref a27, va_rf v10, .int x1] Y s8 (zqV (fun s25 => Q (some (va_rf v22)) s25)))))))))
set_option maxHeartbeats 4000000 in
theorem wk136 {l : Launch} {g : zG} {d : Nat} {C : zO} (hG : zGk g) (hC : zSound l g d C) {args : List Value} {Q : zQ} {Y : zY} {σ : zS} (hw : zb136 (zpg g) C args Q Y σ) : zMet l g (d + 1) (⟨"java/util/ArrayList", "remove", "(I)Ljava/lang/Object;"⟩, Cond.code ⟨"java/util/ArrayList", "remove", "(I)Ljava/lang/Object;"⟩ prog_58_method_29_code 4 (Option.some (FieldType.object "java/lang/Object"))) args σ Q Y := by
  obtain ⟨a0, x1, rfl, hw⟩ := hw
  refine zof hG (by decide +kernel) [false, false] ⟨rfl, rfl, trivial⟩ (Nat.le_of_ble_eq_true rfl) (ls := [some (va_rf (some a0)), some (.int x1), none, none]) rfl ?_
  intro X hX hR hTb hd1 hd2 hl hg hnm
  subst hl
  subst hg
  have hd : zDep X d := ⟨hd1, hd2⟩
  refine z_iload_n hX dJ2_remove_0 rfl (i := 1) rfl ?_
  refine z_aload_n hX dJ2_remove_1 rfl (i := 0) rfl ?_
  obtain ⟨a2, f3, v1, r4, m5, e6, hw⟩ := hw
  refine z_get hX zc2 (k := 2) dJ2_remove_2 (Nat.le_of_ble_eq_true rfl) (zlk hX q214) r4 m5 e6 ?_
  refine z_invS hX hd dJ2_remove_5 (hC 454 _ zm454 _ _ _ _ hw) q375 q376 zh31 q377 q162 zn454 rfl (Nat.le_of_ble_eq_true rfl) (st := []) rfl (zcs8 (Nat.le_of_ble_eq_true rfl)) rfl (zkI (fun v7 s8 hw => ?_)) (zout hX hR hTb)
  refine z_pop hX dJ2_remove_8 rfl ?_
  refine z_aload_n hX dJ2_remove_9 rfl (i := 0) rfl ?_
  obtain ⟨a11, f12, v10, r13, m14, e15, hw⟩ := hw
  refine z_get hX zc2 (k := 1) dJ2_remove_10 (Nat.le_of_ble_eq_true rfl) (zlk hX q213) r13 m14 e15 ?_
  refine z_astore_n hX dJ2_remove_13 rfl (i := 2) (Nat.le_of_ble_eq_true rfl) rfl (ls2 := [some (va_rf (some a0)), some (.int x1), some (va_rf v10), none]) rfl ?_
  refine z_aload_n hX dJ2_remove_14 rfl (i := 2) rfl ?_
  refine z_iload_n hX dJ2_remove_15 rfl (i := 1) rfl ?_
  obtain ⟨a16, n17, f18, r19, m20, i21, hw⟩ := hw
  refine z_aald hX 4 dJ2_remove_16 rfl r19 m20 i21 ?_
  revert hw
  generalize f18 (Int32.toNatClampNeg x1) = v22
  intro hw
  refine z_astore_n hX dJ2_remove_17 rfl (i := 3) (Nat.le_of_ble_eq_true rfl) (zc_rf _) (ls2 := [some (va_rf (some a0)), some (.int x1), some (va_rf v10), some (va_rf v22)]) rfl ?_
  refine z_aload_n hX dJ2_remove_18 rfl (i := 0) rfl ?_
  refine z_aload_n hX dJ2_remove_19 rfl (i := 2) rfl ?_
  refine z_iload_n hX dJ2_remove_20 rfl (i := 1) rfl ?_
  obtain ⟨a27, f28, r29, m30, hw⟩ := hw
  refine z_invV hX hd r29 (ci := 2) rfl rfl m30 dJ2_remove_21 (hC 137 _ zm137 _ _ _ _ hw) q2106 q2108 qs32 zh5 q2109 q134 zn137 rfl (Nat.le_of_ble_eq_true rfl) (st := []) rfl (zcs8 (Nat.le_of_ble_eq_true rfl)) rfl (zkV (fun s25 hw => ?_)) (zout hX hR hTb)
  refine z_aload_n hX dJ2_remove_24 rfl (i := 3) rfl ?_
  exact z_areturn hX hR dJ2_remove_25 (Or.inl ⟨_, rfl⟩) hw
abbrev cJ2_fastRemove : ByteArray := prog_58_method_39_code
def yJ2_fastRemove : MethodName := ⟨RJ2, "fastRemove", "([Ljava/lang/Object;I)V"⟩
def dkwJ2_fastRemove_1 : List UInt8 := [4, 96, 43, 28, 29, 28, 100, 184, 0, 112, 43, 42, 29, 90, 181, 0, 48, 1, 83, 177]
abbrev dktJ2_fastRemove_1 : List UInt8 := dkwJ2_fastRemove_1 ++ []
def dkwJ2_fastRemove_0 : List UInt8 := [42, 89, 180, 0, 63, 4, 96, 181, 0, 63, 42, 180, 0, 48, 4, 100, 89, 62, 28, 164, 0, 15, 43, 28]
abbrev dktJ2_fastRemove_0 : List UInt8 := dkwJ2_fastRemove_0 ++ dktJ2_fastRemove_1
theorem dksJ2_fastRemove_0 : cJ2_fastRemove.data.toList.drop 0 = dktJ2_fastRemove_0 := by decide +kernel
theorem dksJ2_fastRemove_1 : cJ2_fastRemove.data.toList.drop 24 = dktJ2_fastRemove_1 := dk_seg dksJ2_fastRemove_0 24 rfl rfl
theorem dJ2_fastRemove_0 : decode cJ2_fastRemove 0 = .ok (.aload_n 0, 1) := dk_42 (dk_at dksJ2_fastRemove_0 0 rfl rfl)
theorem dJ2_fastRemove_1 : decode cJ2_fastRemove 1 = .ok (.dup, 1) := dk_89 (dk_at dksJ2_fastRemove_0 1 rfl rfl)
theorem dJ2_fastRemove_2 : decode cJ2_fastRemove 2 = .ok (.getfield 63, 3) := dk_180 0 63 (dk_at dksJ2_fastRemove_0 2 rfl rfl)
theorem dJ2_fastRemove_5 : decode cJ2_fastRemove 5 = .ok (.iconst 1, 1) := dk_4 (dk_at dksJ2_fastRemove_0 5 rfl rfl)
theorem dJ2_fastRemove_6 : decode cJ2_fastRemove 6 = .ok (.iadd, 1) := dk_96 (dk_at dksJ2_fastRemove_0 6 rfl rfl)
theorem dJ2_fastRemove_7 : decode cJ2_fastRemove 7 = .ok (.putfield 63, 3) := dk_181 0 63 (dk_at dksJ2_fastRemove_0 7 rfl rfl)
theorem dJ2_fastRemove_10 : decode cJ2_fastRemove 10 = .ok (.aload_n 0, 1) := dk_42 (dk_at dksJ2_fastRemove_0 10 rfl rfl)
theorem dJ2_fastRemove_11 : decode cJ2_fastRemove 11 = .ok (.getfield 48, 3) := dk_180 0 48 (dk_at dksJ2_fastRemove_0 11 rfl rfl)
theorem dJ2_fastRemove_14 : decode cJ2_fastRemove 14 = .ok (.iconst 1, 1) := dk_4 (dk_at dksJ2_fastRemove_0 14 rfl rfl)
theorem dJ2_fastRemove_15 : decode cJ2_fastRemove 15 = .ok (.isub, 1) := dk_100 (dk_at dksJ2_fastRemove_0 15 rfl rfl)
theorem dJ2_fastRemove_16 : decode cJ2_fastRemove 16 = .ok (.dup, 1) := dk_89 (dk_at dksJ2_fastRemove_0 16 rfl rfl)
theorem dJ2_fastRemove_17 : decode cJ2_fastRemove 17 = .ok (.istore_n 3, 1) := dk_62 (dk_at dksJ2_fastRemove_0 17 rfl rfl)
theorem dJ2_fastRemove_18 : decode cJ2_fastRemove 18 = .ok (.iload_n 2, 1) := dk_28 (dk_at dksJ2_fastRemove_0 18 rfl rfl)
theorem dJ2_fastRemove_19 : decode cJ2_fastRemove 19 = .ok (.if_icmp .le 15, 3) := dk_164 0 15 (dk_at dksJ2_fastRemove_0 19 rfl rfl)
theorem dJ2_fastRemove_22 : decode cJ2_fastRemove 22 = .ok (.aload_n 1, 1) := dk_43 (dk_at dksJ2_fastRemove_0 22 rfl rfl)
theorem dJ2_fastRemove_23 : decode cJ2_fastRemove 23 = .ok (.iload_n 2, 1) := dk_28 (dk_at dksJ2_fastRemove_0 23 rfl rfl)
theorem dJ2_fastRemove_24 : decode cJ2_fastRemove 24 = .ok (.iconst 1, 1) := dk_4 (dk_at dksJ2_fastRemove_1 0 rfl rfl)
theorem dJ2_fastRemove_25 : decode cJ2_fastRemove 25 = .ok (.iadd, 1) := dk_96 (dk_at dksJ2_fastRemove_1 1 rfl rfl)
theorem dJ2_fastRemove_26 : decode cJ2_fastRemove 26 = .ok (.aload_n 1, 1) := dk_43 (dk_at dksJ2_fastRemove_1 2 rfl rfl)
theorem dJ2_fastRemove_27 : decode cJ2_fastRemove 27 = .ok (.iload_n 2, 1) := dk_28 (dk_at dksJ2_fastRemove_1 3 rfl rfl)
theorem dJ2_fastRemove_28 : decode cJ2_fastRemove 28 = .ok (.iload_n 3, 1) := dk_29 (dk_at dksJ2_fastRemove_1 4 rfl rfl)
theorem dJ2_fastRemove_29 : decode cJ2_fastRemove 29 = .ok (.iload_n 2, 1) := dk_28 (dk_at dksJ2_fastRemove_1 5 rfl rfl)
theorem dJ2_fastRemove_30 : decode cJ2_fastRemove 30 = .ok (.isub, 1) := dk_100 (dk_at dksJ2_fastRemove_1 6 rfl rfl)
theorem dJ2_fastRemove_31 : decode cJ2_fastRemove 31 = .ok (.invokestatic 112, 3) := dk_184 0 112 (dk_at dksJ2_fastRemove_1 7 rfl rfl)
theorem dJ2_fastRemove_34 : decode cJ2_fastRemove 34 = .ok (.aload_n 1, 1) := dk_43 (dk_at dksJ2_fastRemove_1 10 rfl rfl)
theorem dJ2_fastRemove_35 : decode cJ2_fastRemove 35 = .ok (.aload_n 0, 1) := dk_42 (dk_at dksJ2_fastRemove_1 11 rfl rfl)
theorem dJ2_fastRemove_36 : decode cJ2_fastRemove 36 = .ok (.iload_n 3, 1) := dk_29 (dk_at dksJ2_fastRemove_1 12 rfl rfl)
theorem dJ2_fastRemove_37 : decode cJ2_fastRemove 37 = .ok (.dup_x1, 1) := dk_90 (dk_at dksJ2_fastRemove_1 13 rfl rfl)
theorem dJ2_fastRemove_38 : decode cJ2_fastRemove 38 = .ok (.putfield 48, 3) := dk_181 0 48 (dk_at dksJ2_fastRemove_1 14 rfl rfl)
theorem dJ2_fastRemove_41 : decode cJ2_fastRemove 41 = .ok (.aconst_null, 1) := dk_1 (dk_at dksJ2_fastRemove_1 17 rfl rfl)
theorem dJ2_fastRemove_42 : decode cJ2_fastRemove 42 = .ok (.aastore, 1) := dk_83 (dk_at dksJ2_fastRemove_1 18 rfl rfl)
theorem dJ2_fastRemove_43 : decode cJ2_fastRemove 43 = .ok (.return_, 1) := dk_177 (dk_at dksJ2_fastRemove_1 19 rfl rfl)
/-- java/util/ArrayList.fastRemove([Ljava/lang/Object;I)V -/
def zb137 (G : zPg) (C : zO) (args : List Value) (Q : zQ) (Y : zY) (σ : zS) : Prop := ∃ (a0 : Nat) (x1 : Option Nat) (x2 : Int32), args = [.ref a0, va_rf x1, .int x2] ∧ (zgI σ (some a0) 2 0 (fun v1 => zput σ G.1 (some a0) 2 0 (.int (v1 + (1 : Int32))) (fun s7 => zgI s7 (some a0) 2 2 (fun v15 => zJ (fun  (s21 : zS) => zput s21 G.1 (some a0) 2 2 (.int (v15 - (1 : Int32))) (fun s23 => zsR s23 G.1 4 [0, 1, 2, 3, 4, 5, 6, 7, 8, 9, 10, 11, 12, 13, 14, 15, 16, 17, 18, 19, 20, 21, 22, 23, 24, 25, 26, 27, 28, 29, 30] x1 (v15 - (1 : Int32)) none (fun s39 => Q none s39))) (fun (j22 : zS → Prop) => (((v15 - (1 : Int32)) ≤ x2) → j22 s7) ∧ ((¬ (v15 - (1 : Int32)) ≤ x2) → zacp s7 G.1 4 [0, 1, 2, 3, 4, 5, 6, 7, 8, 9, 10, 11, 12, 13, 14, 15, 16, 17, 18, 19, 20, 21, 22, 23, 24, 25, 26, 27, 28, 29, 30] x1 (x2 + (1 : Int32)) x1 x2 ((v15 - (1 : Int32)) - x2) (fun s42 => j22 s42)))))))
set_option maxHeartbeats 4000000 in
theorem wk137 {l : Launch} {g : zG} {d : Nat} {C : zO} (hG : zGk g) (hC : zSound l g d C) {args : List Value} {Q : zQ} {Y : zY} {σ : zS} (hw : zb137 (zpg g) C args Q Y σ) : zMet l g (d + 1) (⟨"java/util/ArrayList", "fastRemove", "([Ljava/lang/Object;I)V"⟩, Cond.code ⟨"java/util/ArrayList", "fastRemove", "([Ljava/lang/Object;I)V"⟩ prog_58_method_39_code 4 (Option.none : Option FieldType)) args σ Q Y := by
  obtain ⟨a0, x1, x2, rfl, hw⟩ := hw
  refine zof hG (by decide +kernel) [false, false, false] ⟨rfl, (zc_rf _), rfl, trivial⟩ (Nat.le_of_ble_eq_true rfl) (ls := [some (va_rf (some a0)), some (va_rf x1), some (.int x2), none]) rfl ?_
  intro X hX hR hTb hd1 hd2 hl hg hnm
  subst hl
  subst hg
  have hd : zDep X d := ⟨hd1, hd2⟩
  refine z_aload_n hX dJ2_fastRemove_0 rfl (i := 0) rfl ?_
  refine z_dup hX dJ2_fastRemove_1 (zc_rf _) ?_
  obtain ⟨a2, f3, v1, r4, m5, e6, hw⟩ := hw
  refine z_get hX zc2 (k := 0) dJ2_fastRemove_2 (Nat.le_of_ble_eq_true rfl) (zlkS hX "java/util/ArrayList" q216 q217) r4 m5 e6 ?_
  refine z_iconst hX (v := (1 : Int32)) dJ2_fastRemove_5 (by decide) ?_
  refine z_iadd hX dJ2_fastRemove_6 ?_
  obtain ⟨a9, f10, r11, g12, m13, l14, hw⟩ := hw
  refine z_put hX zc2 (k := 0) dJ2_fastRemove_7 (Nat.le_of_ble_eq_true rfl) (zlkS hX "java/util/ArrayList" q216 q217) rfl rfl rfl r11 g12 m13 l14 (z_nm (fun s7 e8 => ?_))
  have hw := hw s7 e8
  refine z_aload_n hX dJ2_fastRemove_10 rfl (i := 0) rfl ?_
  obtain ⟨a16, f17, v15, r18, m19, e20, hw⟩ := hw
  refine z_get hX zc2 (k := 2) dJ2_fastRemove_11 (Nat.le_of_ble_eq_true rfl) (zlk hX q214) r18 m19 e20 ?_
  refine z_iconst hX (v := (1 : Int32)) dJ2_fastRemove_14 (by decide) ?_
  refine z_isub hX dJ2_fastRemove_15 ?_
  refine z_dup hX dJ2_fastRemove_16 rfl ?_
  refine z_istore_n hX dJ2_fastRemove_17 rfl (i := 3) (Nat.le_of_ble_eq_true rfl) rfl (ls2 := [some (va_rf (some a0)), some (va_rf x1), some (.int x2), some (.int (v15 - (1 : Int32)))]) rfl ?_
  refine z_iload_n hX dJ2_fastRemove_18 rfl (i := 2) rfl ?_
  refine zJ_w (P := fun (j : zS → Prop) => ∀  (s21 : zS), j  s21 → zW X s21 34 [some (va_rf (some a0)), some (va_rf x1), none, some (.int (v15 - (1 : Int32)))] []) hw (fun  s21 hw => ?_) (fun j22 hj22 hw => ?_)
  · refine z_aload_n hX dJ2_fastRemove_34 rfl (i := 1) rfl ?_
    refine z_aload_n hX dJ2_fastRemove_35 rfl (i := 0) rfl ?_
    refine z_iload_n hX dJ2_fastRemove_36 rfl (i := 3) rfl ?_
    refine z_dup_x1 hX dJ2_fastRemove_37 rfl (zc_rf _) ?_
    obtain ⟨a25, f26, r27, g28, m29, l30, hw⟩ := hw
    refine z_put hX zc2 (k := 2) dJ2_fastRemove_38 (Nat.le_of_ble_eq_true rfl) (zlk hX q214) rfl rfl rfl r27 g28 m29 l30 (z_nm (fun s23 e24 => ?_))
    have hw := hw s23 e24
    refine z_null hX dJ2_fastRemove_41 ?_
    obtain ⟨a31, n32, f33, r34, g35, m36, i37, c38, hw⟩ := hw
    refine z_aastM hX 4 dJ2_fastRemove_42 rfl rfl (zfa1 ⟨_, rfl, Or.inr q3187⟩ (zfa1 ⟨_, rfl, Or.inr q3188⟩ (zfa1 ⟨_, rfl, Or.inr q3189⟩ (zfa1 ⟨_, rfl, Or.inr q3190⟩ (zfa1 ⟨_, rfl, Or.inr q3191⟩ (zfa1 ⟨_, rfl, Or.inr q3217⟩ (zfa1 ⟨_, rfl, Or.inr q3192⟩ (zfa1 ⟨_, rfl, Or.inr q3193⟩ (zfa1 ⟨_, rfl, Or.inr q3194⟩ (zfa1 ⟨_, rfl, Or.inr q3186⟩ (zfa1 ⟨_, rfl, Or.inr q3201⟩ (zfa1 ⟨_, rfl, Or.inr q3196⟩ (zfa1 ⟨_, rfl, Or.inr q3197⟩ (zfa1 ⟨_, rfl, Or.inr q3198⟩ (zfa1 ⟨_, rfl, Or.inr q3199⟩ (zfa1 ⟨_, rfl, Or.inr q3200⟩ (zfa1 ⟨_, rfl, Or.inr q3202⟩ (zfa1 ⟨_, rfl, Or.inr q3203⟩ (zfa1 ⟨_, rfl, Or.inr q3204⟩ (zfa1 ⟨_, rfl, Or.inr q3205⟩ (zfa1 ⟨_, rfl, Or.inr q3206⟩ (zfa1 ⟨_, rfl, Or.inr q3208⟩ (zfa1 ⟨_, rfl, Or.inr q3209⟩ (zfa1 ⟨_, rfl, Or.inr q3184⟩ (zfa1 ⟨_, rfl, Or.inr q3210⟩ (zfa1 ⟨_, rfl, Or.inr q3211⟩ (zfa1 ⟨_, rfl, Or.inr q3212⟩ (zfa1 ⟨_, rfl, Or.inr q3213⟩ (zfa1 ⟨_, rfl, Or.inr q3215⟩ (zfa1 ⟨_, rfl, Or.inr q3216⟩ (zfa1 ⟨_, rfl, Or.inl rfl⟩ (zfa0)))))))))))))))))))))))))))))))) r34 g35 m36 i37 c38 (z_nm (fun s39 e40 => ?_))
    have hw := hw s39 e40
    exact z_return hX hR dJ2_fastRemove_43 hw
  · refine z_icmp_le hX dJ2_fastRemove_19 (tgt := 34) rfl (fun c41 => ?_) (fun c41 => ?_)
    · have hw := hw.1 c41
      refine z_sub (ls' := [some (va_rf (some a0)), some (va_rf x1), none, some (.int (v15 - (1 : Int32)))]) (zsS (zsS (zsN (zsS (zs0))))) ?_
      exact hj22  _ hw
    · have hw := hw.2 c41
      refine z_aload_n hX dJ2_fastRemove_22 rfl (i := 1) rfl ?_
      refine z_iload_n hX dJ2_fastRemove_23 rfl (i := 2) rfl ?_
      refine z_iconst hX (v := (1 : Int32)) dJ2_fastRemove_24 (by decide) ?_
      refine z_iadd hX dJ2_fastRemove_25 ?_
      refine z_aload_n hX dJ2_fastRemove_26 rfl (i := 1) rfl ?_
      refine z_iload_n hX dJ2_fastRemove_27 rfl (i := 2) rfl ?_
      refine z_iload_n hX dJ2_fastRemove_28 rfl (i := 3) rfl ?_
      refine z_iload_n hX dJ2_fastRemove_29 rfl (i := 2) rfl ?_
      refine z_isub hX dJ2_fastRemove_30 ?_
      refine z_acp hX hd 4 dJ2_fastRemove_31 q2110 q835 q834 q150 (E := "java/lang/Object") (Or.inr ⟨rfl, rfl, (zfa1 ⟨_, rfl, Or.inr q3187⟩ (zfa1 ⟨_, rfl, Or.inr q3188⟩ (zfa1 ⟨_, rfl, Or.inr q3189⟩ (zfa1 ⟨_, rfl, Or.inr q3190⟩ (zfa1 ⟨_, rfl, Or.inr q3191⟩ (zfa1 ⟨_, rfl, Or.inr q3217⟩ (zfa1 ⟨_, rfl, Or.inr q3192⟩ (zfa1 ⟨_, rfl, Or.inr q3193⟩ (zfa1 ⟨_, rfl, Or.inr q3194⟩ (zfa1 ⟨_, rfl, Or.inr q3186⟩ (zfa1 ⟨_, rfl, Or.inr q3201⟩ (zfa1 ⟨_, rfl, Or.inr q3196⟩ (zfa1 ⟨_, rfl, Or.inr q3197⟩ (zfa1 ⟨_, rfl, Or.inr q3198⟩ (zfa1 ⟨_, rfl, Or.inr q3199⟩ (zfa1 ⟨_, rfl, Or.inr q3200⟩ (zfa1 ⟨_, rfl, Or.inr q3202⟩ (zfa1 ⟨_, rfl, Or.inr q3203⟩ (zfa1 ⟨_, rfl, Or.inr q3204⟩ (zfa1 ⟨_, rfl, Or.inr q3205⟩ (zfa1 ⟨_, rfl, Or.inr q3206⟩ (zfa1 ⟨_, rfl, Or.inr q3208⟩ (zfa1 ⟨_, rfl, Or.inr q3209⟩ (zfa1 ⟨_, rfl, Or.inr q3184⟩ (zfa1 ⟨_, rfl, Or.inr q3210⟩ (zfa1 ⟨_, rfl, Or.inr q3211⟩ (zfa1 ⟨_, rfl, Or.inr q3212⟩ (zfa1 ⟨_, rfl, Or.inr q3213⟩ (zfa1 ⟨_, rfl, Or.inr q3215⟩ (zfa1 ⟨_, rfl, Or.inr q3216⟩ (zfa1 ⟨_, rfl, Or.inl rfl⟩ (zfa0))))))))))))))))))))))))))))))))⟩) hw rfl (zcs8 (Nat.le_of_ble_eq_true rfl)) (fun s42 hw => ?_)
      refine z_sub (ls' := [some (va_rf (some a0)), some (va_rf x1), none, some (.int (v15 - (1 : Int32)))]) (zsS (zsS (zsN (zsS (zs0))))) ?_
      exact hj22  _ hw
abbrev cJ3_init : ByteArray := prog_57_method_3_code
def yJ3_init : MethodName := ⟨RJ3, "<init>", "()V"⟩
def dkwJ3_init_0 : List UInt8 := [42, 183, 0, 42, 42, 16, 17, 189, 0, 47, 181, 0, 3, 177]
abbrev dktJ3_init_0 : List UInt8 := dkwJ3_init_0 ++ []
theorem dksJ3_init_0 : cJ3_init.data.toList.drop 0 = dktJ3_init_0 := by decide +kernel
theorem dJ3_init_0 : decode cJ3_init 0 = .ok (.aload_n 0, 1) := dk_42 (dk_at dksJ3_init_0 0 rfl rfl)
theorem dJ3_init_1 : decode cJ3_init 1 = .ok (.invokespecial 42, 3) := dk_183 0 42 (dk_at dksJ3_init_0 1 rfl rfl)
theorem dJ3_init_4 : decode cJ3_init 4 = .ok (.aload_n 0, 1) := dk_42 (dk_at dksJ3_init_0 4 rfl rfl)
theorem dJ3_init_5 : decode cJ3_init 5 = .ok (.bipush 17, 2) := dk_16 17 (dk_at dksJ3_init_0 5 rfl rfl)
theorem dJ3_init_7 : decode cJ3_init 7 = .ok (.anewarray 47, 3) := dk_189 0 47 (dk_at dksJ3_init_0 7 rfl rfl)
theorem dJ3_init_10 : decode cJ3_init 10 = .ok (.putfield 3, 3) := dk_181 0 3 (dk_at dksJ3_init_0 10 rfl rfl)
theorem dJ3_init_13 : decode cJ3_init 13 = .ok (.return_, 1) := dk_177 (dk_at dksJ3_init_0 13 rfl rfl)
/-- java/util/ArrayDeque.<init>()V -/
def zb138 (G : zPg) (C : zO) (args : List Value) (Q : zQ) (Y : zY) (σ : zS) : Prop := ∃ (a0 : Nat), args = [.ref a0] ∧ ((∃ a4, (some a0) = some a4 ∧ zcl C 125 [.ref a4] Y σ (zqV (fun s2 => znewA s2 4 (17 : Int32) (.inr (.inr (.inr (.inr (fun _ => none))))) (fun s6 => zput s6 G.1 (some a0) 3 0 (va_rf (some s2.2.1)) (fun s9 => Q none s9))))))
set_option maxHeartbeats 4000000 in
theorem wk138 {l : Launch} {g : zG} {d : Nat} {C : zO} (hG : zGk g) (hC : zSound l g d C) {args : List Value} {Q : zQ} {Y : zY} {σ : zS} (hw : zb138 (zpg g) C args Q Y σ) : zMet l g (d + 1) (⟨"java/util/ArrayDeque", "<init>", "()V"⟩, Cond.code ⟨"java/util/ArrayDeque", "<init>", "()V"⟩ prog_57_method_3_code 1 (Option.none : Option FieldType)) args σ Q Y := by
  obtain ⟨a0, rfl, hw⟩ := hw
  refine zof hG (by decide +kernel) [false] ⟨rfl, trivial⟩ (Nat.le_of_ble_eq_true rfl) (ls := [some (va_rf (some a0))]) rfl ?_
  intro X hX hR hTb hd1 hd2 hl hg hnm
  subst hl
  subst hg
  have hd : zDep X d := ⟨hd1, hd2⟩
  refine z_aload_n hX dJ3_init_0 rfl (i := 0) rfl ?_
  obtain ⟨a4, r5, hw⟩ := hw
  refine z_invI hX hd r5 dJ3_init_1 (hC 125 _ zm125 _ _ _ _ hw) q293 q208 rfl zh3 q209 q132 zn125 rfl (Nat.le_of_ble_eq_true rfl) (st := []) rfl (zcs8 (Nat.le_of_ble_eq_true rfl)) rfl (zkV (fun s2 hw => ?_)) (zout hX hR hTb)
  refine z_aload_n hX dJ3_init_4 rfl (i := 0) rfl ?_
  refine z_bipush hX (v := (17 : Int32)) dJ3_init_5 (by decide) ?_
  refine z_anew hX 4 dJ3_init_7 q294 q295 rfl rfl hw.1 hw.2.1 hw.2.2.1 hw.2.2.2.1 (fun z7 => z_nm (fun s6 e8 => ?_))
  have hw := hw.2.2.2.2 z7 s6 e8
  obtain ⟨a11, f12, r13, g14, m15, l16, hw⟩ := hw
  refine z_put hX zc3 (k := 0) dJ3_init_10 (Nat.le_of_ble_eq_true rfl) (zlk hX q296) rfl (zn_a _ _) (zf_a _ _) r13 g14 m15 l16 (z_nm (fun s9 e10 => ?_))
  have hw := hw s9 e10
  exact z_return hX hR dJ3_init_13 hw
abbrev cJ3_size : ByteArray := prog_57_method_37_code
def yJ3_size : MethodName := ⟨RJ3, "size", "()I"⟩
def dkwJ3_size_0 : List UInt8 := [42, 180, 0, 20, 42, 180, 0, 24, 42, 180, 0, 3, 190, 184, 0, 127, 172]
abbrev dktJ3_size_0 : List UInt8 := dkwJ3_size_0 ++ []
theorem dksJ3_size_0 : cJ3_size.data.toList.drop 0 = dktJ3_size_0 := by decide +kernel
theorem dJ3_size_0 : decode cJ3_size 0 = .ok (.aload_n 0, 1) := dk_42 (dk_at dksJ3_size_0 0 rfl rfl)
theorem dJ3_size_1 : decode cJ3_size 1 = .ok (.getfield 20, 3) := dk_180 0 20 (dk_at dksJ3_size_0 1 rfl rfl)
theorem dJ3_size_4 : decode cJ3_size 4 = .ok (.aload_n 0, 1) := dk_42 (dk_at dksJ3_size_0 4 rfl rfl)
theorem dJ3_size_5 : decode cJ3_size 5 = .ok (.getfield 24, 3) := dk_180 0 24 (dk_at dksJ3_size_0 5 rfl rfl)
theorem dJ3_size_8 : decode cJ3_size 8 = .ok (.aload_n 0, 1) := dk_42 (dk_at dksJ3_size_0 8 rfl rfl)
theorem dJ3_size_9 : decode cJ3_size 9 = .ok (.getfield 3, 3) := dk_180 0 3 (dk_at dksJ3_size_0 9 rfl rfl)
theorem dJ3_size_12 : decode cJ3_size 12 = .ok (.arraylength, 1) := dk_190 (dk_at dksJ3_size_0 12 rfl rfl)
theorem dJ3_size_13 : decode cJ3_size 13 = .ok (.invokestatic 127, 3) := dk_184 0 127 (dk_at dksJ3_size_0 13 rfl rfl)
theorem dJ3_size_16 : decode cJ3_size 16 = .ok (.ireturn, 1) := dk_172 (dk_at dksJ3_size_0 16 rfl rfl)
/-- java/util/ArrayDeque.size()I -/
def zb139 (G : zPg) (C : zO) (args : List Value) (Q : zQ) (Y : zY) (σ : zS) : Prop := ∃ (a0 : Nat), args = [.ref a0] ∧ (zgI σ (some a0) 3 2 (fun v1 => zgI σ (some a0) 3 1 (fun v7 => zgR σ (some a0) 3 0 (fun v13 => zln σ 4 v13 (fun v23 => zcl C 140 [.int v1, .int v7, .int v23] Y σ (zqI (fun v25 s26 => Q (some (.int v25)) s26)))))))
set_option maxHeartbeats 4000000 in
theorem wk139 {l : Launch} {g : zG} {d : Nat} {C : zO} (hG : zGk g) (hC : zSound l g d C) {args : List Value} {Q : zQ} {Y : zY} {σ : zS} (hw : zb139 (zpg g) C args Q Y σ) : zMet l g (d + 1) (⟨"java/util/ArrayDeque", "size", "()I"⟩, Cond.code ⟨"java/util/ArrayDeque", "size", "()I"⟩ prog_57_method_37_code 1 (Option.some FieldType.int)) args σ Q Y := by
  obtain ⟨a0, rfl, hw⟩ := hw
  refine zof hG (by decide +kernel) [false] ⟨rfl, trivial⟩ (Nat.le_of_ble_eq_true rfl) (ls := [some (va_rf (some a0))]) rfl ?_
  intro X hX hR hTb hd1 hd2 hl hg hnm
  subst hl
  subst hg
  have hd : zDep X d := ⟨hd1, hd2⟩
  refine z_aload_n hX dJ3_size_0 rfl (i := 0) rfl ?_
  obtain ⟨a2, f3, v1, r4, m5, e6, hw⟩ := hw
  refine z_get hX zc3 (k := 2) dJ3_size_1 (Nat.le_of_ble_eq_true rfl) (zlk hX q298) r4 m5 e6 ?_
  refine z_aload_n hX dJ3_size_4 rfl (i := 0) rfl ?_
  obtain ⟨a8, f9, v7, r10, m11, e12, hw⟩ := hw
  refine z_get hX zc3 (k := 1) dJ3_size_5 (Nat.le_of_ble_eq_true rfl) (zlk hX q297) r10 m11 e12 ?_
  refine z_aload_n hX dJ3_size_8 rfl (i := 0) rfl ?_
  obtain ⟨a14, f15, v13, r16, m17, e18, hw⟩ := hw
  refine z_get hX zc3 (k := 0) dJ3_size_9 (Nat.le_of_ble_eq_true rfl) (zlk hX q296) r16 m17 e18 ?_
  obtain ⟨a19, n20, r21, m22, hw⟩ := hw
  refine z_alen hX 4 dJ3_size_12 r21 m22 ?_
  revert hw
  generalize nI n20.1 = v23
  intro hw
  refine z_invS hX hd dJ3_size_13 (hC 140 _ zm140 _ _ _ _ hw) q846 q847 zh6 q848 q135 zn140 rfl (Nat.le_of_ble_eq_true rfl) (st := []) rfl (zcs8 (Nat.le_of_ble_eq_true rfl)) rfl (zkI (fun v25 s26 hw => ?_)) (zout hX hR hTb)
  exact z_ireturn hX hR dJ3_size_16 rfl hw
abbrev cJ3_sub : ByteArray := prog_57_method_9_code
def yJ3_sub : MethodName := ⟨RJ3, "sub", "(III)I"⟩
def dkwJ3_sub_0 : List UInt8 := [26, 27, 100, 89, 59, 156, 0, 7, 26, 28, 96, 59, 26, 172]
abbrev dktJ3_sub_0 : List UInt8 := dkwJ3_sub_0 ++ []
theorem dksJ3_sub_0 : cJ3_sub.data.toList.drop 0 = dktJ3_sub_0 := by decide +kernel
theorem dJ3_sub_0 : decode cJ3_sub 0 = .ok (.iload_n 0, 1) := dk_26 (dk_at dksJ3_sub_0 0 rfl rfl)
theorem dJ3_sub_1 : decode cJ3_sub 1 = .ok (.iload_n 1, 1) := dk_27 (dk_at dksJ3_sub_0 1 rfl rfl)
theorem dJ3_sub_2 : decode cJ3_sub 2 = .ok (.isub, 1) := dk_100 (dk_at dksJ3_sub_0 2 rfl rfl)
theorem dJ3_sub_3 : decode cJ3_sub 3 = .ok (.dup, 1) := dk_89 (dk_at dksJ3_sub_0 3 rfl rfl)
theorem dJ3_sub_4 : decode cJ3_sub 4 = .ok (.istore_n 0, 1) := dk_59 (dk_at dksJ3_sub_0 4 rfl rfl)
theorem dJ3_sub_5 : decode cJ3_sub 5 = .ok (.ifCond .ge 7, 3) := dk_156 0 7 (dk_at dksJ3_sub_0 5 rfl rfl)
theorem dJ3_sub_8 : decode cJ3_sub 8 = .ok (.iload_n 0, 1) := dk_26 (dk_at dksJ3_sub_0 8 rfl rfl)
theorem dJ3_sub_9 : decode cJ3_sub 9 = .ok (.iload_n 2, 1) := dk_28 (dk_at dksJ3_sub_0 9 rfl rfl)
theorem dJ3_sub_10 : decode cJ3_sub 10 = .ok (.iadd, 1) := dk_96 (dk_at dksJ3_sub_0 10 rfl rfl)
theorem dJ3_sub_11 : decode cJ3_sub 11 = .ok (.istore_n 0, 1) := dk_59 (dk_at dksJ3_sub_0 11 rfl rfl)
theorem dJ3_sub_12 : decode cJ3_sub 12 = .ok (.iload_n 0, 1) := dk_26 (dk_at dksJ3_sub_0 12 rfl rfl)
theorem dJ3_sub_13 : decode cJ3_sub 13 = .ok (.ireturn, 1) := dk_172 (dk_at dksJ3_sub_0 13 rfl rfl)
/-- java/util/ArrayDeque.sub(III)I -/
def zb140 (G : zPg) (C : zO) (args : List Value) (Q : zQ) (Y : zY) (σ : zS) : Prop := ∃ (x1 : Int32) (x2 : Int32) (x3 : Int32), args = [.int x1, .int x2, .int x3] ∧ (zJ (fun (p1 : Int32) (s2 : zS) => Q (some (.int p1)) s2) (fun (j3 : Int32 → zS → Prop) => ((0 ≤ (x1 - x2)) → j3 (x1 - x2) σ) ∧ ((¬ 0 ≤ (x1 - x2)) → j3 ((x1 - x2) + x3) σ)))
set_option maxHeartbeats 4000000 in
theorem wk140 {l : Launch} {g : zG} {d : Nat} {C : zO} (hG : zGk g) (hC : zSound l g d C) {args : List Value} {Q : zQ} {Y : zY} {σ : zS} (hw : zb140 (zpg g) C args Q Y σ) : zMet l g (d + 1) (⟨"java/util/ArrayDeque", "sub", "(III)I"⟩, Cond.code ⟨"java/util/ArrayDeque", "sub", "(III)I"⟩ prog_57_method_9_code 3 (Option.some FieldType.int)) args σ Q Y := by
  obtain ⟨x1, x2, x3, rfl, hw⟩ := hw
  refine zof hG (by decide +kernel) [false, false, false] ⟨rfl, rfl, rfl, trivial⟩ (Nat.le_of_ble_eq_true rfl) (ls := [some (.int x1), some (.int x2), some (.int x3)]) rfl ?_
  intro X hX hR hTb hd1 hd2 hl hg hnm
  subst hl
  subst hg
  have hd : zDep X d := ⟨hd1, hd2⟩
  refine z_iload_n hX dJ3_sub_0 rfl (i := 0) rfl ?_
  refine z_iload_n hX dJ3_sub_1 rfl (i := 1) rfl ?_
  refine z_isub hX dJ3_sub_2 ?_
  refine z_dup hX dJ3_sub_3 rfl ?_
  refine z_istore_n hX dJ3_sub_4 rfl (i := 0) (Nat.le_of_ble_eq_true rfl) trivial (ls2 := [some (.int (x1 - x2)), some (.int x2), some (.int x3)]) rfl ?_
  refine zJ_w (P := fun (j : Int32 → zS → Prop) => ∀ (p1 : Int32) (s2 : zS), j p1 s2 → zW X s2 12 [some (.int p1), none, none] []) hw (fun p1 s2 hw => ?_) (fun j3 hj3 hw => ?_)
  · refine z_iload_n hX dJ3_sub_12 rfl (i := 0) rfl ?_
    exact z_ireturn hX hR dJ3_sub_13 rfl hw
  · refine z_if_ge hX dJ3_sub_5 (tgt := 12) rfl (fun c4 => ?_) (fun c4 => ?_)
    · have hw := hw.1 c4
      refine z_sub (ls' := [some (.int (x1 - x2)), none, none]) (zsS (zsN (zsN (zs0)))) ?_
      exact hj3 _ _ hw
    · have hw := hw.2 c4
      refine z_iload_n hX dJ3_sub_8 rfl (i := 0) rfl ?_
      refine z_iload_n hX dJ3_sub_9 rfl (i := 2) rfl ?_
      refine z_iadd hX dJ3_sub_10 ?_
      refine z_istore_n hX dJ3_sub_11 rfl (i := 0) (Nat.le_of_ble_eq_true rfl) trivial (ls2 := [some (.int ((x1 - x2) + x3)), some (.int x2), some (.int x3)]) rfl ?_
      refine z_sub (ls' := [some (.int ((x1 - x2) + x3)), none, none]) (zsS (zsN (zsN (zs0)))) ?_
      exact hj3 _ _ hw
abbrev cJ3_removeFirst : ByteArray := prog_57_method_18_code
def yJ3_removeFirst : MethodName := ⟨RJ3, "removeFirst", "()Ljava/lang/Object;"⟩
def dkwJ3_removeFirst_0 : List UInt8 := [42, 182, 0, 93, 76, 43, 199, 0, 11, 187, 0, 97, 89, 183, 0, 99, 191, 43, 176]
abbrev dktJ3_removeFirst_0 : List UInt8 := dkwJ3_removeFirst_0 ++ []
theorem dksJ3_removeFirst_0 : cJ3_removeFirst.data.toList.drop 0 = dktJ3_removeFirst_0 := by decide +kernel
theorem dJ3_removeFirst_0 : decode cJ3_removeFirst 0 = .ok (.aload_n 0, 1) := dk_42 (dk_at dksJ3_removeFirst_0 0 rfl rfl)
theorem dJ3_removeFirst_1 : decode cJ3_removeFirst 1 = .ok (.invokevirtual 93, 3) := dk_182 0 93 (dk_at dksJ3_removeFirst_0 1 rfl rfl)
theorem dJ3_removeFirst_4 : decode cJ3_removeFirst 4 = .ok (.astore_n 1, 1) := dk_76 (dk_at dksJ3_removeFirst_0 4 rfl rfl)
theorem dJ3_removeFirst_5 : decode cJ3_removeFirst 5 = .ok (.aload_n 1, 1) := dk_43 (dk_at dksJ3_removeFirst_0 5 rfl rfl)
theorem dJ3_removeFirst_6 : decode cJ3_removeFirst 6 = .ok (.ifnonnull 11, 3) := dk_199 0 11 (dk_at dksJ3_removeFirst_0 6 rfl rfl)
theorem dJ3_removeFirst_9 : decode cJ3_removeFirst 9 = .ok (.new 97, 3) := dk_187 0 97 (dk_at dksJ3_removeFirst_0 9 rfl rfl)
theorem dJ3_removeFirst_12 : decode cJ3_removeFirst 12 = .ok (.dup, 1) := dk_89 (dk_at dksJ3_removeFirst_0 12 rfl rfl)
theorem dJ3_removeFirst_13 : decode cJ3_removeFirst 13 = .ok (.invokespecial 99, 3) := dk_183 0 99 (dk_at dksJ3_removeFirst_0 13 rfl rfl)
theorem dJ3_removeFirst_16 : decode cJ3_removeFirst 16 = .ok (.athrow, 1) := dk_191 (dk_at dksJ3_removeFirst_0 16 rfl rfl)
theorem dJ3_removeFirst_17 : decode cJ3_removeFirst 17 = .ok (.aload_n 1, 1) := dk_43 (dk_at dksJ3_removeFirst_0 17 rfl rfl)
theorem dJ3_removeFirst_18 : decode cJ3_removeFirst 18 = .ok (.areturn, 1) := dk_176 (dk_at dksJ3_removeFirst_0 18 rfl rfl)
/-- java/util/ArrayDeque.removeFirst()Ljava/lang/Object; -/
def zb141 (G : zPg) (C : zO) (args : List Value) (Q : zQ) (Y : zY) (σ : zS) : Prop := ∃ (a0 : Nat), args = [.ref a0] ∧ (zrc σ (some a0) 3 (fun a4 => zcl C 142 [.ref a4] Y σ (zqR (fun v1 s2 => ((¬ v1 = none) → Q (some (va_rf v1)) s2) ∧ ((v1 = none) → znew s2 16 [] 6 (fun s9 => (∃ a15, (some s2.2.1) = some a15 ∧ zcl C 457 [.ref a15] Y s9 (zqV (fun s13 => ∃ q17, (some s2.2.1) = some q17 ∧ Y q17 s13)))))))))
set_option maxHeartbeats 4000000 in
theorem wk141 {l : Launch} {g : zG} {d : Nat} {C : zO} (hG : zGk g) (hC : zSound l g d C) {args : List Value} {Q : zQ} {Y : zY} {σ : zS} (hw : zb141 (zpg g) C args Q Y σ) : zMet l g (d + 1) (⟨"java/util/ArrayDeque", "removeFirst", "()Ljava/lang/Object;"⟩, Cond.code ⟨"java/util/ArrayDeque", "removeFirst", "()Ljava/lang/Object;"⟩ prog_57_method_18_code 2 (Option.some (FieldType.object "java/lang/Object"))) args σ Q Y := by
  obtain ⟨a0, rfl, hw⟩ := hw
  refine zof hG (by decide +kernel) [false] ⟨rfl, trivial⟩ (Nat.le_of_ble_eq_true rfl) (ls := [some (va_rf (some a0)), none]) rfl ?_
  intro X hX hR hTb hd1 hd2 hl hg hnm
  subst hl
  subst hg
  have hd : zDep X d := ⟨hd1, hd2⟩
  refine z_aload_n hX dJ3_removeFirst_0 rfl (i := 0) rfl ?_
  obtain ⟨a4, f5, r6, m7, hw⟩ := hw
  refine z_invV hX hd r6 (ci := 3) rfl rfl m7 dJ3_removeFirst_1 (hC 142 _ zm142 _ _ _ _ hw) q853 q854 q855 zh6 q856 q135 zn142 rfl (Nat.le_of_ble_eq_true rfl) (st := []) rfl (zcs8 (Nat.le_of_ble_eq_true rfl)) rfl (zkR (fun v1 s2 hw => ?_)) (zout hX hR hTb)
  refine z_astore_n hX dJ3_removeFirst_4 rfl (i := 1) (Nat.le_of_ble_eq_true rfl) (zc_rf _) (ls2 := [some (va_rf (some a0)), some (va_rf v1)]) rfl ?_
  refine z_aload_n hX dJ3_removeFirst_5 rfl (i := 1) rfl ?_
  refine z_ifnonnull hX dJ3_removeFirst_6 (tgt := 17) rfl (fun c8 => ?_) (fun c8 => ?_)
  · have hw := hw.1 c8
    refine z_aload_n hX dJ3_removeFirst_17 rfl (i := 1) rfl ?_
    exact z_areturn hX hR dJ3_removeFirst_18 (Or.inl ⟨_, rfl⟩) hw
  · have hw := hw.2 c8
    refine z_new hX zc16 dJ3_removeFirst_9 q863 q864 q165 (fs := []) (fun j hj => absurd hj (Nat.not_lt_zero _)) hw.1 hw.2.1 (fun z10 => z_nm (fun s9 e11 => ?_))
    have hw := hw.2.2 z10 s9 e11
    refine z_dup hX dJ3_removeFirst_12 (zc_rf _) ?_
    obtain ⟨a15, r16, hw⟩ := hw
    refine z_invI hX hd r16 dJ3_removeFirst_13 (hC 457 _ zm457 _ _ _ _ hw) q906 q907 rfl zh33 q908 q165 zn457 rfl (Nat.le_of_ble_eq_true rfl) (st := [va_rf (some s2.2.1)]) rfl (zcs8 (Nat.le_of_ble_eq_true rfl)) rfl (zkV (fun s13 hw => ?_)) (zout hX hR hTb)
    obtain ⟨q17, r18, hw⟩ := hw
    exact z_athrow hX dJ3_removeFirst_16 r18 ((zout hX hR hTb) _ _ hw)
abbrev cJ3_pollFirst : ByteArray := prog_57_method_20_code
def yJ3_pollFirst : MethodName := ⟨RJ3, "pollFirst", "()Ljava/lang/Object;"⟩
def dkwJ3_pollFirst_1 : List UInt8 := [42, 28, 43, 190, 184, 0, 74, 181, 0, 24, 45, 176]
abbrev dktJ3_pollFirst_1 : List UInt8 := dkwJ3_pollFirst_1 ++ []
def dkwJ3_pollFirst_0 : List UInt8 := [42, 180, 0, 3, 89, 76, 42, 180, 0, 24, 89, 61, 184, 0, 103, 78, 45, 198, 0, 17, 43, 28, 1, 83]
abbrev dktJ3_pollFirst_0 : List UInt8 := dkwJ3_pollFirst_0 ++ dktJ3_pollFirst_1
theorem dksJ3_pollFirst_0 : cJ3_pollFirst.data.toList.drop 0 = dktJ3_pollFirst_0 := by decide +kernel
theorem dksJ3_pollFirst_1 : cJ3_pollFirst.data.toList.drop 24 = dktJ3_pollFirst_1 := dk_seg dksJ3_pollFirst_0 24 rfl rfl
theorem dJ3_pollFirst_0 : decode cJ3_pollFirst 0 = .ok (.aload_n 0, 1) := dk_42 (dk_at dksJ3_pollFirst_0 0 rfl rfl)
theorem dJ3_pollFirst_1 : decode cJ3_pollFirst 1 = .ok (.getfield 3, 3) := dk_180 0 3 (dk_at dksJ3_pollFirst_0 1 rfl rfl)
theorem dJ3_pollFirst_4 : decode cJ3_pollFirst 4 = .ok (.dup, 1) := dk_89 (dk_at dksJ3_pollFirst_0 4 rfl rfl)
theorem dJ3_pollFirst_5 : decode cJ3_pollFirst 5 = .ok (.astore_n 1, 1) := dk_76 (dk_at dksJ3_pollFirst_0 5 rfl rfl)
theorem dJ3_pollFirst_6 : decode cJ3_pollFirst 6 = .ok (.aload_n 0, 1) := dk_42 (dk_at dksJ3_pollFirst_0 6 rfl rfl)
theorem dJ3_pollFirst_7 : decode cJ3_pollFirst 7 = .ok (.getfield 24, 3) := dk_180 0 24 (dk_at dksJ3_pollFirst_0 7 rfl rfl)
theorem dJ3_pollFirst_10 : decode cJ3_pollFirst 10 = .ok (.dup, 1) := dk_89 (dk_at dksJ3_pollFirst_0 10 rfl rfl)
theorem dJ3_pollFirst_11 : decode cJ3_pollFirst 11 = .ok (.istore_n 2, 1) := dk_61 (dk_at dksJ3_pollFirst_0 11 rfl rfl)
theorem dJ3_pollFirst_12 : decode cJ3_pollFirst 12 = .ok (.invokestatic 103, 3) := dk_184 0 103 (dk_at dksJ3_pollFirst_0 12 rfl rfl)
theorem dJ3_pollFirst_15 : decode cJ3_pollFirst 15 = .ok (.astore_n 3, 1) := dk_78 (dk_at dksJ3_pollFirst_0 15 rfl rfl)
theorem dJ3_pollFirst_16 : decode cJ3_pollFirst 16 = .ok (.aload_n 3, 1) := dk_45 (dk_at dksJ3_pollFirst_0 16 rfl rfl)
theorem dJ3_pollFirst_17 : decode cJ3_pollFirst 17 = .ok (.ifnull 17, 3) := dk_198 0 17 (dk_at dksJ3_pollFirst_0 17 rfl rfl)
theorem dJ3_pollFirst_20 : decode cJ3_pollFirst 20 = .ok (.aload_n 1, 1) := dk_43 (dk_at dksJ3_pollFirst_0 20 rfl rfl)
theorem dJ3_pollFirst_21 : decode cJ3_pollFirst 21 = .ok (.iload_n 2, 1) := dk_28 (dk_at dksJ3_pollFirst_0 21 rfl rfl)
theorem dJ3_pollFirst_22 : decode cJ3_pollFirst 22 = .ok (.aconst_null, 1) := dk_1 (dk_at dksJ3_pollFirst_0 22 rfl rfl)
theorem dJ3_pollFirst_23 : decode cJ3_pollFirst 23 = .ok (.aastore, 1) := dk_83 (dk_at dksJ3_pollFirst_0 23 rfl rfl)
theorem dJ3_pollFirst_24 : decode cJ3_pollFirst 24 = .ok (.aload_n 0, 1) := dk_42 (dk_at dksJ3_pollFirst_1 0 rfl rfl)
theorem dJ3_pollFirst_25 : decode cJ3_pollFirst 25 = .ok (.iload_n 2, 1) := dk_28 (dk_at dksJ3_pollFirst_1 1 rfl rfl)
theorem dJ3_pollFirst_26 : decode cJ3_pollFirst 26 = .ok (.aload_n 1, 1) := dk_43 (dk_at dksJ3_pollFirst_1 2 rfl rfl)
theorem dJ3_pollFirst_27 : decode cJ3_pollFirst 27 = .ok (.arraylength, 1) := dk_190 (dk_at dksJ3_pollFirst_1 3 rfl rfl)
theorem dJ3_pollFirst_28 : decode cJ3_pollFirst 28 = .ok (.invokestatic 74, 3) := dk_184 0 74 (dk_at dksJ3_pollFirst_1 4 rfl rfl)
theorem dJ3_pollFirst_31 : decode cJ3_pollFirst 31 = .ok (.putfield 24, 3) := dk_181 0 24 (dk_at dksJ3_pollFirst_1 7 rfl rfl)
theorem dJ3_pollFirst_34 : decode cJ3_pollFirst 34 = .ok (.aload_n 3, 1) := dk_45 (dk_at dksJ3_pollFirst_1 10 rfl rfl)
theorem dJ3_pollFirst_35 : decode cJ3_pollFirst 35 = .ok (.areturn, 1) := dk_176 (dk_at dksJ3_pollFirst_1 11 rfl rfl)
/-- java/util/ArrayDeque.pollFirst()Ljava/lang/Object; -/
def zb142 (G : zPg) (C : zO) (args : List Value) (Q : zQ) (Y : zY) (σ : zS) : Prop := ∃ (a0 : Nat), args = [.ref a0] ∧ (zgR σ (some a0) 3 0 (fun v1 => zgI σ (some a0) 3 1 (fun v7 => zcl C 143 [va_rf v1, .int v7] Y σ (zqR (fun v13 s14 => zJ (fun  (s16 : zS) => Q (some (va_rf v13)) s16) (fun (j17 : zS → Prop) => ((v13 = none) → j17 s14) ∧ ((¬ v13 = none) → zsR s14 G.1 4 [0, 1, 2, 3, 4, 5, 6, 7, 8, 9, 10, 11, 12, 13, 14, 15, 16, 17, 18, 19, 20, 21, 22, 23, 24, 25, 26, 27, 28, 29, 30] v1 v7 none (fun s27 => zln s27 4 v1 (fun v33 => zcl C 144 [.int v7, .int v33] Y s27 (zqI (fun v35 s36 => zput s36 G.1 (some a0) 3 1 (.int v35) (fun s38 => j17 s38))))))))))))
set_option maxHeartbeats 4000000 in
theorem wk142 {l : Launch} {g : zG} {d : Nat} {C : zO} (hG : zGk g) (hC : zSound l g d C) {args : List Value} {Q : zQ} {Y : zY} {σ : zS} (hw : zb142 (zpg g) C args Q Y σ) : zMet l g (d + 1) (⟨"java/util/ArrayDeque", "pollFirst", "()Ljava/lang/Object;"⟩, Cond.code ⟨"java/util/ArrayDeque", "pollFirst", "()Ljava/lang/Object;"⟩ prog_57_method_20_code 4 (Option.some (FieldType.object "java/lang/Object"))) args σ Q Y := by
  obtain ⟨a0, rfl, hw⟩ := hw
  refine zof hG (by decide +kernel) [false] ⟨rfl, trivial⟩ (Nat.le_of_ble_eq_true rfl) (ls := [some (va_rf (some a0)), none, none, none]) rfl ?_
  intro X hX hR hTb hd1 hd2 hl hg hnm
  subst hl
  subst hg
  have hd : zDep X d := ⟨hd1, hd2⟩
  refine z_aload_n hX dJ3_pollFirst_0 rfl (i := 0) rfl ?_
  obtain ⟨a2, f3, v1, r4, m5, e6, hw⟩ := hw
  refine z_get hX zc3 (k := 0) dJ3_pollFirst_1 (Nat.le_of_ble_eq_true rfl) (zlk hX q296) r4 m5 e6 ?_
  refine z_dup hX dJ3_pollFirst_4 (zc_rf _) ?_
  refine z_astore_n hX dJ3_pollFirst_5 rfl (i := 1) (Nat.le_of_ble_eq_true rfl) (zc_rf _) (ls2 := [some (va_rf (some a0)), some (va_rf v1), none, none]) rfl ?_
  refine z_aload_n hX dJ3_pollFirst_6 rfl (i := 0) rfl ?_
  obtain ⟨a8, f9, v7, r10, m11, e12, hw⟩ := hw
  refine z_get hX zc3 (k := 1) dJ3_pollFirst_7 (Nat.le_of_ble_eq_true rfl) (zlk hX q297) r10 m11 e12 ?_
  refine z_dup hX dJ3_pollFirst_10 rfl ?_
  refine z_istore_n hX dJ3_pollFirst_11 rfl (i := 2) (Nat.le_of_ble_eq_true rfl) (zc_rf _) (ls2 := [some (va_rf (some a0)), some (va_rf v1), some (.int v7), none]) rfl ?_
  refine z_invS hX hd dJ3_pollFirst_12 (hC 143 _ zm143 _ _ _ _ hw) q857 q858 zh6 q859 q135 zn143 rfl (Nat.le_of_ble_eq_true rfl) (st := []) rfl (zcs8 (Nat.le_of_ble_eq_true rfl)) rfl (zkR (fun v13 s14 hw => ?_)) (zout hX hR hTb)
  refine z_astore_n hX dJ3_pollFirst_15 rfl (i := 3) (Nat.le_of_ble_eq_true rfl) rfl (ls2 := [some (va_rf (some a0)), some (va_rf v1), some (.int v7), some (va_rf v13)]) rfl ?_
  refine z_aload_n hX dJ3_pollFirst_16 rfl (i := 3) rfl ?_
  refine zJ_w (P := fun (j : zS → Prop) => ∀  (s16 : zS), j  s16 → zW X s16 34 [none, none, none, some (va_rf v13)] []) hw (fun  s16 hw => ?_) (fun j17 hj17 hw => ?_)
  · refine z_aload_n hX dJ3_pollFirst_34 rfl (i := 3) rfl ?_
    exact z_areturn hX hR dJ3_pollFirst_35 (Or.inl ⟨_, rfl⟩) hw
  · refine z_ifnull hX dJ3_pollFirst_17 (tgt := 34) rfl (fun c18 => ?_) (fun c18 => ?_)
    · have hw := hw.1 c18
      refine z_sub (ls' := [none, none, none, some (va_rf v13)]) (zsN (zsN (zsN (zsS (zs0))))) ?_
      exact hj17  _ hw
    · have hw := hw.2 c18
      refine z_aload_n hX dJ3_pollFirst_20 rfl (i := 1) rfl ?_
      refine z_iload_n hX dJ3_pollFirst_21 rfl (i := 2) rfl ?_
      refine z_null hX dJ3_pollFirst_22 ?_
      obtain ⟨a19, n20, f21, r22, g23, m24, i25, c26, hw⟩ := hw
      refine z_aastM hX 4 dJ3_pollFirst_23 rfl rfl (zfa1 ⟨_, rfl, Or.inr q3187⟩ (zfa1 ⟨_, rfl, Or.inr q3188⟩ (zfa1 ⟨_, rfl, Or.inr q3189⟩ (zfa1 ⟨_, rfl, Or.inr q3190⟩ (zfa1 ⟨_, rfl, Or.inr q3191⟩ (zfa1 ⟨_, rfl, Or.inr q3217⟩ (zfa1 ⟨_, rfl, Or.inr q3192⟩ (zfa1 ⟨_, rfl, Or.inr q3193⟩ (zfa1 ⟨_, rfl, Or.inr q3194⟩ (zfa1 ⟨_, rfl, Or.inr q3186⟩ (zfa1 ⟨_, rfl, Or.inr q3201⟩ (zfa1 ⟨_, rfl, Or.inr q3196⟩ (zfa1 ⟨_, rfl, Or.inr q3197⟩ (zfa1 ⟨_, rfl, Or.inr q3198⟩ (zfa1 ⟨_, rfl, Or.inr q3199⟩ (zfa1 ⟨_, rfl, Or.inr q3200⟩ (zfa1 ⟨_, rfl, Or.inr q3202⟩ (zfa1 ⟨_, rfl, Or.inr q3203⟩ (zfa1 ⟨_, rfl, Or.inr q3204⟩ (zfa1 ⟨_, rfl, Or.inr q3205⟩ (zfa1 ⟨_, rfl, Or.inr q3206⟩ (zfa1 ⟨_, rfl, Or.inr q3208⟩ (zfa1 ⟨_, rfl, Or.inr q3209⟩ (zfa1 ⟨_, rfl, Or.inr q3184⟩ (zfa1 ⟨_, rfl, Or.inr q3210⟩ (zfa1 ⟨_, rfl, Or.inr q3211⟩ (zfa1 ⟨_, rfl, Or.inr q3212⟩ (zfa1 ⟨_, rfl, Or.inr q3213⟩ (zfa1 ⟨_, rfl, Or.inr q3215⟩ (zfa1 ⟨_, rfl, Or.inr q3216⟩ (zfa1 ⟨_, rfl, Or.inl rfl⟩ (zfa0)))))))))))))))))))))))))))))))) r22 g23 m24 i25 c26 (z_nm (fun s27 e28 => ?_))
      have hw := hw s27 e28
      refine z_aload_n hX dJ3_pollFirst_24 rfl (i := 0) rfl ?_
      refine z_iload_n hX dJ3_pollFirst_25 rfl (i := 2) rfl ?_
      refine z_aload_n hX dJ3_pollFirst_26 rfl (i := 1) rfl ?_
      obtain ⟨a29, n30, r31, m32, hw⟩ := hw
      refine z_alen hX 4 dJ3_pollFirst_27 r31 m32 ?_
      revert hw
      generalize nI n30.1 = v33
      intro hw
      refine z_invS hX hd dJ3_pollFirst_28 (hC 144 _ zm144 _ _ _ _ hw) q860 q861 zh6 q862 q135 zn144 rfl (Nat.le_of_ble_eq_true rfl) (st := [va_rf (some a0)]) rfl (zcs8 (Nat.le_of_ble_eq_true rfl)) rfl (zkI (fun v35 s36 hw => ?_)) (zout hX hR hTb)
      obtain ⟨a40, f41, r42, g43, m44, l45, hw⟩ := hw
      refine z_put hX zc3 (k := 1) dJ3_pollFirst_31 (Nat.le_of_ble_eq_true rfl) (zlk hX q297) rfl rfl rfl r42 g43 m44 l45 (z_nm (fun s38 e39 => ?_))
      have hw := hw s38 e39
      refine z_sub (ls' := [none, none, none, some (va_rf v13)]) (zsN (zsN (zsN (zsS (zs0))))) ?_
      exact hj17  _ hw
abbrev cJ3_elementAt : ByteArray := prog_57_method_10_code
def yJ3_elementAt : MethodName := ⟨RJ3, "elementAt", "([Ljava/lang/Object;I)Ljava/lang/Object;"⟩
def dkwJ3_elementAt_0 : List UInt8 := [42, 27, 50, 176]
abbrev dktJ3_elementAt_0 : List UInt8 := dkwJ3_elementAt_0 ++ []
theorem dksJ3_elementAt_0 : cJ3_elementAt.data.toList.drop 0 = dktJ3_elementAt_0 := by decide +kernel
theorem dJ3_elementAt_0 : decode cJ3_elementAt 0 = .ok (.aload_n 0, 1) := dk_42 (dk_at dksJ3_elementAt_0 0 rfl rfl)
theorem dJ3_elementAt_1 : decode cJ3_elementAt 1 = .ok (.iload_n 1, 1) := dk_27 (dk_at dksJ3_elementAt_0 1 rfl rfl)
theorem dJ3_elementAt_2 : decode cJ3_elementAt 2 = .ok (.aaload, 1) := dk_50 (dk_at dksJ3_elementAt_0 2 rfl rfl)
theorem dJ3_elementAt_3 : decode cJ3_elementAt 3 = .ok (.areturn, 1) := dk_176 (dk_at dksJ3_elementAt_0 3 rfl rfl)
/-- java/util/ArrayDeque.elementAt([Ljava/lang/Object;I)Ljava/lang/Object; -/
def zb143 (G : zPg) (C : zO) (args : List Value) (Q : zQ) (Y : zY) (σ : zS) : Prop := ∃ (x1 : Option Nat) (x2 : Int32), args = [va_rf x1, .int x2] ∧ (zaR σ 4 x1 x2 (fun v7 => Q (some (va_rf v7)) σ))
set_option maxHeartbeats 4000000 in
theorem wk143 {l : Launch} {g : zG} {d : Nat} {C : zO} (hG : zGk g) (hC : zSound l g d C) {args : List Value} {Q : zQ} {Y : zY} {σ : zS} (hw : zb143 (zpg g) C args Q Y σ) : zMet l g (d + 1) (⟨"java/util/ArrayDeque", "elementAt", "([Ljava/lang/Object;I)Ljava/lang/Object;"⟩, Cond.code ⟨"java/util/ArrayDeque", "elementAt", "([Ljava/lang/Object;I)Ljava/lang/Object;"⟩ prog_57_method_10_code 2 (Option.some (FieldType.object "java/lang/Object"))) args σ Q Y := by
  obtain ⟨x1, x2, rfl, hw⟩ := hw
  refine zof hG (by decide +kernel) [false, false] ⟨(zc_rf _), rfl, trivial⟩ (Nat.le_of_ble_eq_true rfl) (ls := [some (va_rf x1), some (.int x2)]) rfl ?_
  intro X hX hR hTb hd1 hd2 hl hg hnm
  subst hl
  subst hg
  have hd : zDep X d := ⟨hd1, hd2⟩
  refine z_aload_n hX dJ3_elementAt_0 rfl (i := 0) rfl ?_
  refine z_iload_n hX dJ3_elementAt_1 rfl (i := 1) rfl ?_
  obtain ⟨a1, n2, f3, r4, m5, i6, hw⟩ := hw
  refine z_aald hX 4 dJ3_elementAt_2 rfl r4 m5 i6 ?_
  revert hw
  generalize f3 (Int32.toNatClampNeg x2) = v7
  intro hw
  exact z_areturn hX hR dJ3_elementAt_3 (Or.inl ⟨_, rfl⟩) hw
abbrev cJ3_inc : ByteArray := prog_57_method_6_code
def yJ3_inc : MethodName := ⟨RJ3, "inc", "(II)I"⟩
def dkwJ3_inc_0 : List UInt8 := [132, 0, 1, 26, 27, 161, 0, 5, 3, 59, 26, 172]
abbrev dktJ3_inc_0 : List UInt8 := dkwJ3_inc_0 ++ []
theorem dksJ3_inc_0 : cJ3_inc.data.toList.drop 0 = dktJ3_inc_0 := by decide +kernel
theorem dJ3_inc_0 : decode cJ3_inc 0 = .ok (.iinc 0 1, 3) := dk_132 0 1 (dk_at dksJ3_inc_0 0 rfl rfl)
theorem dJ3_inc_3 : decode cJ3_inc 3 = .ok (.iload_n 0, 1) := dk_26 (dk_at dksJ3_inc_0 3 rfl rfl)
theorem dJ3_inc_4 : decode cJ3_inc 4 = .ok (.iload_n 1, 1) := dk_27 (dk_at dksJ3_inc_0 4 rfl rfl)
theorem dJ3_inc_5 : decode cJ3_inc 5 = .ok (.if_icmp .lt 5, 3) := dk_161 0 5 (dk_at dksJ3_inc_0 5 rfl rfl)
theorem dJ3_inc_8 : decode cJ3_inc 8 = .ok (.iconst 0, 1) := dk_3 (dk_at dksJ3_inc_0 8 rfl rfl)
theorem dJ3_inc_9 : decode cJ3_inc 9 = .ok (.istore_n 0, 1) := dk_59 (dk_at dksJ3_inc_0 9 rfl rfl)
theorem dJ3_inc_10 : decode cJ3_inc 10 = .ok (.iload_n 0, 1) := dk_26 (dk_at dksJ3_inc_0 10 rfl rfl)
theorem dJ3_inc_11 : decode cJ3_inc 11 = .ok (.ireturn, 1) := dk_172 (dk_at dksJ3_inc_0 11 rfl rfl)
/-- java/util/ArrayDeque.inc(II)I -/
def zb144 (G : zPg) (C : zO) (args : List Value) (Q : zQ) (Y : zY) (σ : zS) : Prop := ∃ (x1 : Int32) (x2 : Int32), args = [.int x1, .int x2] ∧ ((∀ v1 : Int32, v1 = x1 + (1 : Int32) → zJ (fun (p3 : Int32) (s4 : zS) => Q (some (.int p3)) s4) (fun (j5 : Int32 → zS → Prop) => ((v1 < x2) → j5 v1 σ) ∧ ((¬ v1 < x2) → j5 (0 : Int32) σ))))
set_option maxHeartbeats 4000000 in
theorem wk144 {l : Launch} {g : zG} {d : Nat} {C : zO} (hG : zGk g) (hC : zSound l g d C) {args : List Value} {Q : zQ} {Y : zY} {σ : zS} (hw : zb144 (zpg g) C args Q Y σ) : zMet l g (d + 1) (⟨"java/util/ArrayDeque", "inc", "(II)I"⟩, Cond.code ⟨"java/util/ArrayDeque", "inc", "(II)I"⟩ prog_57_method_6_code 2 (Option.some FieldType.int)) args σ Q Y := by
  obtain ⟨x1, x2, rfl, hw⟩ := hw
  refine zof hG (by decide +kernel) [false, false] ⟨rfl, rfl, trivial⟩ (Nat.le_of_ble_eq_true rfl) (ls := [some (.int x1), some (.int x2)]) rfl ?_
  intro X hX hR hTb hd1 hd2 hl hg hnm
  subst hl
  subst hg
  have hd : zDep X d := ⟨hd1, hd2⟩
  obtain ⟨v1, e2⟩ : ∃ y : Int32, y = x1 + (1 : Int32) := ⟨_, rfl⟩
  refine z_iinc hX dJ3_inc_0 (i := 0) (v := v1) rfl (by rw [e2]; rfl) (Nat.le_of_ble_eq_true rfl) trivial (ls2 := [some (.int v1), some (.int x2)]) rfl ?_
  have hw := hw v1 e2
  refine z_iload_n hX dJ3_inc_3 rfl (i := 0) rfl ?_
  refine z_iload_n hX dJ3_inc_4 rfl (i := 1) rfl ?_
  refine zJ_w (P := fun (j : Int32 → zS → Prop) => ∀ (p3 : Int32) (s4 : zS), j p3 s4 → zW X s4 10 [some (.int p3), none] []) hw (fun p3 s4 hw => ?_) (fun j5 hj5 hw => ?_)
  · refine z_iload_n hX dJ3_inc_10 rfl (i := 0) rfl ?_
    exact z_ireturn hX hR dJ3_inc_11 rfl hw
  · refine z_icmp_lt hX dJ3_inc_5 (tgt := 10) rfl (fun c6 => ?_) (fun c6 => ?_)
    · have hw := hw.1 c6
      refine z_sub (ls' := [some (.int v1), none]) (zsS (zsN (zs0))) ?_
      exact hj5 _ _ hw
    · have hw := hw.2 c6
      refine z_iconst hX (v := (0 : Int32)) dJ3_inc_8 (by decide) ?_
      refine z_istore_n hX dJ3_inc_9 rfl (i := 0) (Nat.le_of_ble_eq_true rfl) trivial (ls2 := [some (.int (0 : Int32)), some (.int x2)]) rfl ?_
      refine z_sub (ls' := [some (.int (0 : Int32)), none]) (zsS (zsN (zs0))) ?_
      exact hj5 _ _ hw
abbrev cJ3_addLast : ByteArray := prog_57_method_13_code
def yJ3_addLast : MethodName := ⟨RJ3, "addLast", "(Ljava/lang/Object;)V"⟩
def dkwJ3_addLast_2 : List UInt8 := [182, 0, 71, 177]
abbrev dktJ3_addLast_2 : List UInt8 := dkwJ3_addLast_2 ++ []
def dkwJ3_addLast_1 : List UInt8 := [42, 180, 0, 24, 42, 42, 180, 0, 20, 44, 190, 184, 0, 74, 90, 181, 0, 20, 160, 0, 8, 42, 4]
abbrev dktJ3_addLast_1 : List UInt8 := dkwJ3_addLast_1 ++ dktJ3_addLast_2
def dkwJ3_addLast_0 : List UInt8 := [43, 199, 0, 11, 187, 0, 65, 89, 183, 0, 67, 191, 42, 180, 0, 3, 77, 44, 42, 180, 0, 20, 43, 83]
abbrev dktJ3_addLast_0 : List UInt8 := dkwJ3_addLast_0 ++ dktJ3_addLast_1
theorem dksJ3_addLast_0 : cJ3_addLast.data.toList.drop 0 = dktJ3_addLast_0 := by decide +kernel
theorem dksJ3_addLast_1 : cJ3_addLast.data.toList.drop 24 = dktJ3_addLast_1 := dk_seg dksJ3_addLast_0 24 rfl rfl
theorem dksJ3_addLast_2 : cJ3_addLast.data.toList.drop 47 = dktJ3_addLast_2 := dk_seg dksJ3_addLast_1 23 rfl rfl
theorem dJ3_addLast_0 : decode cJ3_addLast 0 = .ok (.aload_n 1, 1) := dk_43 (dk_at dksJ3_addLast_0 0 rfl rfl)
theorem dJ3_addLast_1 : decode cJ3_addLast 1 = .ok (.ifnonnull 11, 3) := dk_199 0 11 (dk_at dksJ3_addLast_0 1 rfl rfl)
theorem dJ3_addLast_4 : decode cJ3_addLast 4 = .ok (.new 65, 3) := dk_187 0 65 (dk_at dksJ3_addLast_0 4 rfl rfl)
theorem dJ3_addLast_7 : decode cJ3_addLast 7 = .ok (.dup, 1) := dk_89 (dk_at dksJ3_addLast_0 7 rfl rfl)
theorem dJ3_addLast_8 : decode cJ3_addLast 8 = .ok (.invokespecial 67, 3) := dk_183 0 67 (dk_at dksJ3_addLast_0 8 rfl rfl)
theorem dJ3_addLast_11 : decode cJ3_addLast 11 = .ok (.athrow, 1) := dk_191 (dk_at dksJ3_addLast_0 11 rfl rfl)
theorem dJ3_addLast_12 : decode cJ3_addLast 12 = .ok (.aload_n 0, 1) := dk_42 (dk_at dksJ3_addLast_0 12 rfl rfl)
theorem dJ3_addLast_13 : decode cJ3_addLast 13 = .ok (.getfield 3, 3) := dk_180 0 3 (dk_at dksJ3_addLast_0 13 rfl rfl)
theorem dJ3_addLast_16 : decode cJ3_addLast 16 = .ok (.astore_n 2, 1) := dk_77 (dk_at dksJ3_addLast_0 16 rfl rfl)
theorem dJ3_addLast_17 : decode cJ3_addLast 17 = .ok (.aload_n 2, 1) := dk_44 (dk_at dksJ3_addLast_0 17 rfl rfl)
theorem dJ3_addLast_18 : decode cJ3_addLast 18 = .ok (.aload_n 0, 1) := dk_42 (dk_at dksJ3_addLast_0 18 rfl rfl)
theorem dJ3_addLast_19 : decode cJ3_addLast 19 = .ok (.getfield 20, 3) := dk_180 0 20 (dk_at dksJ3_addLast_0 19 rfl rfl)
theorem dJ3_addLast_22 : decode cJ3_addLast 22 = .ok (.aload_n 1, 1) := dk_43 (dk_at dksJ3_addLast_0 22 rfl rfl)
theorem dJ3_addLast_23 : decode cJ3_addLast 23 = .ok (.aastore, 1) := dk_83 (dk_at dksJ3_addLast_0 23 rfl rfl)
theorem dJ3_addLast_24 : decode cJ3_addLast 24 = .ok (.aload_n 0, 1) := dk_42 (dk_at dksJ3_addLast_1 0 rfl rfl)
theorem dJ3_addLast_25 : decode cJ3_addLast 25 = .ok (.getfield 24, 3) := dk_180 0 24 (dk_at dksJ3_addLast_1 1 rfl rfl)
theorem dJ3_addLast_28 : decode cJ3_addLast 28 = .ok (.aload_n 0, 1) := dk_42 (dk_at dksJ3_addLast_1 4 rfl rfl)
theorem dJ3_addLast_29 : decode cJ3_addLast 29 = .ok (.aload_n 0, 1) := dk_42 (dk_at dksJ3_addLast_1 5 rfl rfl)
theorem dJ3_addLast_30 : decode cJ3_addLast 30 = .ok (.getfield 20, 3) := dk_180 0 20 (dk_at dksJ3_addLast_1 6 rfl rfl)
theorem dJ3_addLast_33 : decode cJ3_addLast 33 = .ok (.aload_n 2, 1) := dk_44 (dk_at dksJ3_addLast_1 9 rfl rfl)
theorem dJ3_addLast_34 : decode cJ3_addLast 34 = .ok (.arraylength, 1) := dk_190 (dk_at dksJ3_addLast_1 10 rfl rfl)
theorem dJ3_addLast_35 : decode cJ3_addLast 35 = .ok (.invokestatic 74, 3) := dk_184 0 74 (dk_at dksJ3_addLast_1 11 rfl rfl)
theorem dJ3_addLast_38 : decode cJ3_addLast 38 = .ok (.dup_x1, 1) := dk_90 (dk_at dksJ3_addLast_1 14 rfl rfl)
theorem dJ3_addLast_39 : decode cJ3_addLast 39 = .ok (.putfield 20, 3) := dk_181 0 20 (dk_at dksJ3_addLast_1 15 rfl rfl)
theorem dJ3_addLast_42 : decode cJ3_addLast 42 = .ok (.if_icmp .ne 8, 3) := dk_160 0 8 (dk_at dksJ3_addLast_1 18 rfl rfl)
theorem dJ3_addLast_45 : decode cJ3_addLast 45 = .ok (.aload_n 0, 1) := dk_42 (dk_at dksJ3_addLast_1 21 rfl rfl)
theorem dJ3_addLast_46 : decode cJ3_addLast 46 = .ok (.iconst 1, 1) := dk_4 (dk_at dksJ3_addLast_1 22 rfl rfl)
theorem dJ3_addLast_47 : decode cJ3_addLast 47 = .ok (.invokevirtual 71, 3) := dk_182 0 71 (dk_at dksJ3_addLast_2 0 rfl rfl)
theorem dJ3_addLast_50 : decode cJ3_addLast 50 = .ok (.return_, 1) := dk_177 (dk_at dksJ3_addLast_2 3 rfl rfl)
/-- java/util/ArrayDeque.addLast(Ljava/lang/Object;)V -/
def zb145 (G : zPg) (C : zO) (args : List Value) (Q : zQ) (Y : zY) (σ : zS) : Prop := ∃ (a0 : Nat) (x1 : Option Nat), args = [.ref a0, va_rf x1] ∧ (((¬ x1 = none) → zgR σ (some a0) 3 0 (fun v2 => zgI σ (some a0) 3 2 (fun v8 => zsR σ G.1 4 [0, 1, 2, 3, 4, 5, 6, 7, 8, 9, 10, 11, 12, 13, 14, 15, 16, 17, 18, 19, 20, 21, 22, 23, 24, 25, 26, 27, 28, 29, 30] v2 v8 x1 (fun s22 => zgI s22 (some a0) 3 1 (fun v24 => zgI s22 (some a0) 3 2 (fun v30 => zln s22 4 v2 (fun v40 => zcl C 144 [.int v30, .int v40] Y s22 (zqI (fun v42 s43 => zput s43 G.1 (some a0) 3 2 (.int v42) (fun s45 => zJ (fun  (s53 : zS) => Q none s53) (fun (j54 : zS → Prop) => ((¬ v24 = v42) → j54 s45) ∧ ((v24 = v42) → zrc s45 (some a0) 3 (fun a59 => zcl C 146 [.ref a59, .int (1 : Int32)] Y s45 (zqV (fun s57 => j54 s57))))))))))))))) ∧ ((x1 = none) → False))
set_option maxHeartbeats 4000000 in
theorem wk145 {l : Launch} {g : zG} {d : Nat} {C : zO} (hG : zGk g) (hC : zSound l g d C) {args : List Value} {Q : zQ} {Y : zY} {σ : zS} (hw : zb145 (zpg g) C args Q Y σ) : zMet l g (d + 1) (⟨"java/util/ArrayDeque", "addLast", "(Ljava/lang/Object;)V"⟩, Cond.code ⟨"java/util/ArrayDeque", "addLast", "(Ljava/lang/Object;)V"⟩ prog_57_method_13_code 3 (Option.none : Option FieldType)) args σ Q Y := by
  obtain ⟨a0, x1, rfl, hw⟩ := hw
  refine zof hG (by decide +kernel) [false, false] ⟨rfl, (zc_rf _), trivial⟩ (Nat.le_of_ble_eq_true rfl) (ls := [some (va_rf (some a0)), some (va_rf x1), none]) rfl ?_
  intro X hX hR hTb hd1 hd2 hl hg hnm
  subst hl
  subst hg
  have hd : zDep X d := ⟨hd1, hd2⟩
  refine z_aload_n hX dJ3_addLast_0 rfl (i := 1) rfl ?_
  refine z_ifnonnull hX dJ3_addLast_1 (tgt := 12) rfl (fun c1 => ?_) (fun c1 => ?_)
  · have hw := hw.1 c1
    refine z_aload_n hX dJ3_addLast_12 rfl (i := 0) rfl ?_
    obtain ⟨a3, f4, v2, r5, m6, e7, hw⟩ := hw
    refine z_get hX zc3 (k := 0) dJ3_addLast_13 (Nat.le_of_ble_eq_true rfl) (zlk hX q296) r5 m6 e7 ?_
    refine z_astore_n hX dJ3_addLast_16 rfl (i := 2) (Nat.le_of_ble_eq_true rfl) (zc_rf _) (ls2 := [some (va_rf (some a0)), some (va_rf x1), some (va_rf v2)]) rfl ?_
    refine z_aload_n hX dJ3_addLast_17 rfl (i := 2) rfl ?_
    refine z_aload_n hX dJ3_addLast_18 rfl (i := 0) rfl ?_
    obtain ⟨a9, f10, v8, r11, m12, e13, hw⟩ := hw
    refine z_get hX zc3 (k := 2) dJ3_addLast_19 (Nat.le_of_ble_eq_true rfl) (zlk hX q298) r11 m12 e13 ?_
    refine z_aload_n hX dJ3_addLast_22 rfl (i := 1) rfl ?_
    obtain ⟨a14, n15, f16, r17, g18, m19, i20, c21, hw⟩ := hw
    refine z_aastM hX 4 dJ3_addLast_23 rfl rfl (zfa1 ⟨_, rfl, Or.inr q3187⟩ (zfa1 ⟨_, rfl, Or.inr q3188⟩ (zfa1 ⟨_, rfl, Or.inr q3189⟩ (zfa1 ⟨_, rfl, Or.inr q3190⟩ (zfa1 ⟨_, rfl, Or.inr q3191⟩ (zfa1 ⟨_, rfl, Or.inr q3217⟩ (zfa1 ⟨_, rfl, Or.inr q3192⟩ (zfa1 ⟨_, rfl, Or.inr q3193⟩ (zfa1 ⟨_, rfl, Or.inr q3194⟩ (zfa1 ⟨_, rfl, Or.inr q3186⟩ (zfa1 ⟨_, rfl, Or.inr q3201⟩ (zfa1 ⟨_, rfl, Or.inr q3196⟩ (zfa1 ⟨_, rfl, Or.inr q3197⟩ (zfa1 ⟨_, rfl, Or.inr q3198⟩ (zfa1 ⟨_, rfl, Or.inr q3199⟩ (zfa1 ⟨_, rfl, Or.inr q3200⟩ (zfa1 ⟨_, rfl, Or.inr q3202⟩ (zfa1 ⟨_, rfl, Or.inr q3203⟩ (zfa1 ⟨_, rfl, Or.inr q3204⟩ (zfa1 ⟨_, rfl, Or.inr q3205⟩ (zfa1 ⟨_, rfl, Or.inr q3206⟩ (zfa1 ⟨_, rfl, Or.inr q3208⟩ (zfa1 ⟨_, rfl, Or.inr q3209⟩ (zfa1 ⟨_, rfl, Or.inr q3184⟩ (zfa1 ⟨_, rfl, Or.inr q3210⟩ (zfa1 ⟨_, rfl, Or.inr q3211⟩ (zfa1 ⟨_, rfl, Or.inr q3212⟩ (zfa1 ⟨_, rfl, Or.inr q3213⟩ (zfa1 ⟨_, rfl, Or.inr q3215⟩ (zfa1 ⟨_, rfl, Or.inr q3216⟩ (zfa1 ⟨_, rfl, Or.inl rfl⟩ (zfa0)))))))))))))))))))))))))))))))) r17 g18 m19 i20 c21 (z_nm (fun s22 e23 => ?_))
    have hw := hw s22 e23
    refine z_aload_n hX dJ3_addLast_24 rfl (i := 0) rfl ?_
    obtain ⟨a25, f26, v24, r27, m28, e29, hw⟩ := hw
    refine z_get hX zc3 (k := 1) dJ3_addLast_25 (Nat.le_of_ble_eq_true rfl) (zlk hX q297) r27 m28 e29 ?_
    refine z_aload_n hX dJ3_addLast_28 rfl (i := 0) rfl ?_
    refine z_aload_n hX dJ3_addLast_29 rfl (i := 0) rfl ?_
    obtain ⟨a31, f32, v30, r33, m34, e35, hw⟩ := hw
    refine z_get hX zc3 (k := 2) dJ3_addLast_30 (Nat.le_of_ble_eq_true rfl) (zlk hX q298) r33 m34 e35 ?_
    refine z_aload_n hX dJ3_addLast_33 rfl (i := 2) rfl ?_
    obtain ⟨a36, n37, r38, m39, hw⟩ := hw
    refine z_alen hX 4 dJ3_addLast_34 r38 m39 ?_
    revert hw
    generalize nI n37.1 = v40
    intro hw
    refine z_invS hX hd dJ3_addLast_35 (hC 144 _ zm144 _ _ _ _ hw) q860 q861 zh6 q862 q135 zn144 rfl (Nat.le_of_ble_eq_true rfl) (st := [va_rf (some a0), .int v24]) rfl (zcs8 (Nat.le_of_ble_eq_true rfl)) rfl (zkI (fun v42 s43 hw => ?_)) (zout hX hR hTb)
    refine z_dup_x1 hX dJ3_addLast_38 rfl (zc_rf _) ?_
    obtain ⟨a47, f48, r49, g50, m51, l52, hw⟩ := hw
    refine z_put hX zc3 (k := 2) dJ3_addLast_39 (Nat.le_of_ble_eq_true rfl) (zlk hX q298) rfl rfl rfl r49 g50 m51 l52 (z_nm (fun s45 e46 => ?_))
    have hw := hw s45 e46
    refine zJ_w (P := fun (j : zS → Prop) => ∀  (s53 : zS), j  s53 → zW X s53 50 [none, none, none] []) hw (fun  s53 hw => ?_) (fun j54 hj54 hw => ?_)
    · exact z_return hX hR dJ3_addLast_50 hw
    · refine z_icmp_ne hX dJ3_addLast_42 (tgt := 50) rfl (fun c55 => ?_) (fun c55 => ?_)
      · have hw := hw.1 c55
        refine z_sub (ls' := [none, none, none]) (zsN (zsN (zsN (zs0)))) ?_
        exact hj54  _ hw
      · have hw := hw.2 c55
        refine z_aload_n hX dJ3_addLast_45 rfl (i := 0) rfl ?_
        refine z_iconst hX (v := (1 : Int32)) dJ3_addLast_46 (by decide) ?_
        obtain ⟨a59, f60, r61, m62, hw⟩ := hw
        refine z_invV hX hd r61 (ci := 3) rfl rfl m62 dJ3_addLast_47 (hC 146 _ zm146 _ _ _ _ hw) q933 q935 qs16 zh6 q936 q135 zn146 rfl (Nat.le_of_ble_eq_true rfl) (st := []) rfl (zcs8 (Nat.le_of_ble_eq_true rfl)) rfl (zkV (fun s57 hw => ?_)) (zout hX hR hTb)
        refine z_sub (ls' := [none, none, none]) (zsN (zsN (zsN (zs0)))) ?_
        exact hj54  _ hw
  · have hw := hw.2 c1
    exact hw.elim
abbrev cJ3_grow : ByteArray := prog_57_method_1_code
def yJ3_grow : MethodName := ⟨RJ3, "grow", "(I)V"⟩
def dkwJ3_grow_7 : List UInt8 := [177]
abbrev dktJ3_grow_7 : List UInt8 := dkwJ3_grow_7 ++ []
def dkwJ3_grow_6 : List UInt8 := [181, 0, 24, 54, 8, 21, 7, 21, 8, 162, 0, 15, 25, 5, 21, 7, 1, 83, 132, 7, 1, 167, 255, 240]
abbrev dktJ3_grow_6 : List UInt8 := dkwJ3_grow_6 ++ dktJ3_grow_7
def dkwJ3_grow_5 : List UInt8 := [42, 180, 0, 24, 100, 184, 0, 27, 42, 180, 0, 24, 54, 7, 42, 89, 180, 0, 24, 21, 6, 96, 90]
abbrev dktJ3_grow_5 : List UInt8 := dkwJ3_grow_5 ++ dktJ3_grow_6
def dkwJ3_grow_4 : List UInt8 := [198, 0, 71, 29, 28, 100, 54, 6, 25, 5, 42, 180, 0, 24, 25, 5, 42, 180, 0, 24, 21, 6, 96, 28]
abbrev dktJ3_grow_4 : List UInt8 := dkwJ3_grow_4 ++ dktJ3_grow_5
def dkwJ3_grow_3 : List UInt8 := [180, 0, 24, 161, 0, 24, 42, 180, 0, 20, 42, 180, 0, 24, 160, 0, 81, 25, 5, 42, 180, 0, 24, 50]
abbrev dktJ3_grow_3 : List UInt8 := dkwJ3_grow_3 ++ dktJ3_grow_4
def dkwJ3_grow_2 : List UInt8 := [182, 0, 10, 62, 42, 42, 180, 0, 3, 29, 184, 0, 14, 90, 181, 0, 3, 58, 5, 42, 180, 0, 20, 42]
abbrev dktJ3_grow_2 : List UInt8 := dkwJ3_grow_2 ++ dktJ3_grow_3
def dkwJ3_grow_1 : List UInt8 := [21, 4, 27, 161, 0, 15, 28, 21, 4, 96, 89, 62, 18, 9, 100, 158, 0, 11, 42, 27, 21, 4]
abbrev dktJ3_grow_1 : List UInt8 := dkwJ3_grow_1 ++ dktJ3_grow_2
def dkwJ3_grow_0 : List UInt8 := [42, 180, 0, 3, 190, 61, 28, 16, 64, 162, 0, 9, 28, 5, 96, 167, 0, 6, 28, 4, 122, 54, 4]
abbrev dktJ3_grow_0 : List UInt8 := dkwJ3_grow_0 ++ dktJ3_grow_1
theorem dksJ3_grow_0 : cJ3_grow.data.toList.drop 0 = dktJ3_grow_0 := by decide +kernel
theorem dksJ3_grow_1 : cJ3_grow.data.toList.drop 23 = dktJ3_grow_1 := dk_seg dksJ3_grow_0 23 rfl rfl
theorem dksJ3_grow_2 : cJ3_grow.data.toList.drop 45 = dktJ3_grow_2 := dk_seg dksJ3_grow_1 22 rfl rfl
theorem dksJ3_grow_3 : cJ3_grow.data.toList.drop 69 = dktJ3_grow_3 := dk_seg dksJ3_grow_2 24 rfl rfl
theorem dksJ3_grow_4 : cJ3_grow.data.toList.drop 93 = dktJ3_grow_4 := dk_seg dksJ3_grow_3 24 rfl rfl
theorem dksJ3_grow_5 : cJ3_grow.data.toList.drop 117 = dktJ3_grow_5 := dk_seg dksJ3_grow_4 24 rfl rfl
theorem dksJ3_grow_6 : cJ3_grow.data.toList.drop 140 = dktJ3_grow_6 := dk_seg dksJ3_grow_5 23 rfl rfl
theorem dksJ3_grow_7 : cJ3_grow.data.toList.drop 164 = dktJ3_grow_7 := dk_seg dksJ3_grow_6 24 rfl rfl
theorem dJ3_grow_0 : decode cJ3_grow 0 = .ok (.aload_n 0, 1) := dk_42 (dk_at dksJ3_grow_0 0 rfl rfl)
theorem dJ3_grow_1 : decode cJ3_grow 1 = .ok (.getfield 3, 3) := dk_180 0 3 (dk_at dksJ3_grow_0 1 rfl rfl)
theorem dJ3_grow_4 : decode cJ3_grow 4 = .ok (.arraylength, 1) := dk_190 (dk_at dksJ3_grow_0 4 rfl rfl)
theorem dJ3_grow_5 : decode cJ3_grow 5 = .ok (.istore_n 2, 1) := dk_61 (dk_at dksJ3_grow_0 5 rfl rfl)
theorem dJ3_grow_6 : decode cJ3_grow 6 = .ok (.iload_n 2, 1) := dk_28 (dk_at dksJ3_grow_0 6 rfl rfl)
theorem dJ3_grow_7 : decode cJ3_grow 7 = .ok (.bipush 64, 2) := dk_16 64 (dk_at dksJ3_grow_0 7 rfl rfl)
theorem dJ3_grow_9 : decode cJ3_grow 9 = .ok (.if_icmp .ge 9, 3) := dk_162 0 9 (dk_at dksJ3_grow_0 9 rfl rfl)
theorem dJ3_grow_12 : decode cJ3_grow 12 = .ok (.iload_n 2, 1) := dk_28 (dk_at dksJ3_grow_0 12 rfl rfl)
theorem dJ3_grow_13 : decode cJ3_grow 13 = .ok (.iconst 2, 1) := dk_5 (dk_at dksJ3_grow_0 13 rfl rfl)
theorem dJ3_grow_14 : decode cJ3_grow 14 = .ok (.iadd, 1) := dk_96 (dk_at dksJ3_grow_0 14 rfl rfl)
theorem dJ3_grow_15 : decode cJ3_grow 15 = .ok (.goto 6, 3) := dk_167 0 6 (dk_at dksJ3_grow_0 15 rfl rfl)
theorem dJ3_grow_18 : decode cJ3_grow 18 = .ok (.iload_n 2, 1) := dk_28 (dk_at dksJ3_grow_0 18 rfl rfl)
theorem dJ3_grow_19 : decode cJ3_grow 19 = .ok (.iconst 1, 1) := dk_4 (dk_at dksJ3_grow_0 19 rfl rfl)
theorem dJ3_grow_20 : decode cJ3_grow 20 = .ok (.ishr, 1) := dk_122 (dk_at dksJ3_grow_0 20 rfl rfl)
theorem dJ3_grow_21 : decode cJ3_grow 21 = .ok (.istore 4, 2) := dk_54 4 (dk_at dksJ3_grow_0 21 rfl rfl)
theorem dJ3_grow_23 : decode cJ3_grow 23 = .ok (.iload 4, 2) := dk_21 4 (dk_at dksJ3_grow_1 0 rfl rfl)
theorem dJ3_grow_25 : decode cJ3_grow 25 = .ok (.iload_n 1, 1) := dk_27 (dk_at dksJ3_grow_1 2 rfl rfl)
theorem dJ3_grow_26 : decode cJ3_grow 26 = .ok (.if_icmp .lt 15, 3) := dk_161 0 15 (dk_at dksJ3_grow_1 3 rfl rfl)
theorem dJ3_grow_29 : decode cJ3_grow 29 = .ok (.iload_n 2, 1) := dk_28 (dk_at dksJ3_grow_1 6 rfl rfl)
theorem dJ3_grow_30 : decode cJ3_grow 30 = .ok (.iload 4, 2) := dk_21 4 (dk_at dksJ3_grow_1 7 rfl rfl)
theorem dJ3_grow_32 : decode cJ3_grow 32 = .ok (.iadd, 1) := dk_96 (dk_at dksJ3_grow_1 9 rfl rfl)
theorem dJ3_grow_33 : decode cJ3_grow 33 = .ok (.dup, 1) := dk_89 (dk_at dksJ3_grow_1 10 rfl rfl)
theorem dJ3_grow_34 : decode cJ3_grow 34 = .ok (.istore_n 3, 1) := dk_62 (dk_at dksJ3_grow_1 11 rfl rfl)
theorem dJ3_grow_35 : decode cJ3_grow 35 = .ok (.ldc 9, 2) := dk_18 9 (dk_at dksJ3_grow_1 12 rfl rfl)
theorem dJ3_grow_37 : decode cJ3_grow 37 = .ok (.isub, 1) := dk_100 (dk_at dksJ3_grow_1 14 rfl rfl)
theorem dJ3_grow_38 : decode cJ3_grow 38 = .ok (.ifCond .le 11, 3) := dk_158 0 11 (dk_at dksJ3_grow_1 15 rfl rfl)
theorem dJ3_grow_41 : decode cJ3_grow 41 = .ok (.aload_n 0, 1) := dk_42 (dk_at dksJ3_grow_1 18 rfl rfl)
theorem dJ3_grow_42 : decode cJ3_grow 42 = .ok (.iload_n 1, 1) := dk_27 (dk_at dksJ3_grow_1 19 rfl rfl)
theorem dJ3_grow_43 : decode cJ3_grow 43 = .ok (.iload 4, 2) := dk_21 4 (dk_at dksJ3_grow_1 20 rfl rfl)
theorem dJ3_grow_45 : decode cJ3_grow 45 = .ok (.invokevirtual 10, 3) := dk_182 0 10 (dk_at dksJ3_grow_2 0 rfl rfl)
theorem dJ3_grow_48 : decode cJ3_grow 48 = .ok (.istore_n 3, 1) := dk_62 (dk_at dksJ3_grow_2 3 rfl rfl)
theorem dJ3_grow_49 : decode cJ3_grow 49 = .ok (.aload_n 0, 1) := dk_42 (dk_at dksJ3_grow_2 4 rfl rfl)
theorem dJ3_grow_50 : decode cJ3_grow 50 = .ok (.aload_n 0, 1) := dk_42 (dk_at dksJ3_grow_2 5 rfl rfl)
theorem dJ3_grow_51 : decode cJ3_grow 51 = .ok (.getfield 3, 3) := dk_180 0 3 (dk_at dksJ3_grow_2 6 rfl rfl)
theorem dJ3_grow_54 : decode cJ3_grow 54 = .ok (.iload_n 3, 1) := dk_29 (dk_at dksJ3_grow_2 9 rfl rfl)
theorem dJ3_grow_55 : decode cJ3_grow 55 = .ok (.invokestatic 14, 3) := dk_184 0 14 (dk_at dksJ3_grow_2 10 rfl rfl)
theorem dJ3_grow_58 : decode cJ3_grow 58 = .ok (.dup_x1, 1) := dk_90 (dk_at dksJ3_grow_2 13 rfl rfl)
theorem dJ3_grow_59 : decode cJ3_grow 59 = .ok (.putfield 3, 3) := dk_181 0 3 (dk_at dksJ3_grow_2 14 rfl rfl)
theorem dJ3_grow_62 : decode cJ3_grow 62 = .ok (.astore 5, 2) := dk_58 5 (dk_at dksJ3_grow_2 17 rfl rfl)
theorem dJ3_grow_64 : decode cJ3_grow 64 = .ok (.aload_n 0, 1) := dk_42 (dk_at dksJ3_grow_2 19 rfl rfl)
theorem dJ3_grow_65 : decode cJ3_grow 65 = .ok (.getfield 20, 3) := dk_180 0 20 (dk_at dksJ3_grow_2 20 rfl rfl)
theorem dJ3_grow_68 : decode cJ3_grow 68 = .ok (.aload_n 0, 1) := dk_42 (dk_at dksJ3_grow_2 23 rfl rfl)
theorem dJ3_grow_69 : decode cJ3_grow 69 = .ok (.getfield 24, 3) := dk_180 0 24 (dk_at dksJ3_grow_3 0 rfl rfl)
theorem dJ3_grow_72 : decode cJ3_grow 72 = .ok (.if_icmp .lt 24, 3) := dk_161 0 24 (dk_at dksJ3_grow_3 3 rfl rfl)
theorem dJ3_grow_75 : decode cJ3_grow 75 = .ok (.aload_n 0, 1) := dk_42 (dk_at dksJ3_grow_3 6 rfl rfl)
theorem dJ3_grow_76 : decode cJ3_grow 76 = .ok (.getfield 20, 3) := dk_180 0 20 (dk_at dksJ3_grow_3 7 rfl rfl)
theorem dJ3_grow_79 : decode cJ3_grow 79 = .ok (.aload_n 0, 1) := dk_42 (dk_at dksJ3_grow_3 10 rfl rfl)
theorem dJ3_grow_80 : decode cJ3_grow 80 = .ok (.getfield 24, 3) := dk_180 0 24 (dk_at dksJ3_grow_3 11 rfl rfl)
theorem dJ3_grow_83 : decode cJ3_grow 83 = .ok (.if_icmp .ne 81, 3) := dk_160 0 81 (dk_at dksJ3_grow_3 14 rfl rfl)
theorem dJ3_grow_86 : decode cJ3_grow 86 = .ok (.aload 5, 2) := dk_25 5 (dk_at dksJ3_grow_3 17 rfl rfl)
theorem dJ3_grow_88 : decode cJ3_grow 88 = .ok (.aload_n 0, 1) := dk_42 (dk_at dksJ3_grow_3 19 rfl rfl)
theorem dJ3_grow_89 : decode cJ3_grow 89 = .ok (.getfield 24, 3) := dk_180 0 24 (dk_at dksJ3_grow_3 20 rfl rfl)
theorem dJ3_grow_92 : decode cJ3_grow 92 = .ok (.aaload, 1) := dk_50 (dk_at dksJ3_grow_3 23 rfl rfl)
theorem dJ3_grow_93 : decode cJ3_grow 93 = .ok (.ifnull 71, 3) := dk_198 0 71 (dk_at dksJ3_grow_4 0 rfl rfl)
theorem dJ3_grow_96 : decode cJ3_grow 96 = .ok (.iload_n 3, 1) := dk_29 (dk_at dksJ3_grow_4 3 rfl rfl)
theorem dJ3_grow_97 : decode cJ3_grow 97 = .ok (.iload_n 2, 1) := dk_28 (dk_at dksJ3_grow_4 4 rfl rfl)
theorem dJ3_grow_98 : decode cJ3_grow 98 = .ok (.isub, 1) := dk_100 (dk_at dksJ3_grow_4 5 rfl rfl)
theorem dJ3_grow_99 : decode cJ3_grow 99 = .ok (.istore 6, 2) := dk_54 6 (dk_at dksJ3_grow_4 6 rfl rfl)
theorem dJ3_grow_101 : decode cJ3_grow 101 = .ok (.aload 5, 2) := dk_25 5 (dk_at dksJ3_grow_4 8 rfl rfl)
theorem dJ3_grow_103 : decode cJ3_grow 103 = .ok (.aload_n 0, 1) := dk_42 (dk_at dksJ3_grow_4 10 rfl rfl)
theorem dJ3_grow_104 : decode cJ3_grow 104 = .ok (.getfield 24, 3) := dk_180 0 24 (dk_at dksJ3_grow_4 11 rfl rfl)
theorem dJ3_grow_107 : decode cJ3_grow 107 = .ok (.aload 5, 2) := dk_25 5 (dk_at dksJ3_grow_4 14 rfl rfl)
theorem dJ3_grow_109 : decode cJ3_grow 109 = .ok (.aload_n 0, 1) := dk_42 (dk_at dksJ3_grow_4 16 rfl rfl)
theorem dJ3_grow_110 : decode cJ3_grow 110 = .ok (.getfield 24, 3) := dk_180 0 24 (dk_at dksJ3_grow_4 17 rfl rfl)
theorem dJ3_grow_113 : decode cJ3_grow 113 = .ok (.iload 6, 2) := dk_21 6 (dk_at dksJ3_grow_4 20 rfl rfl)
theorem dJ3_grow_115 : decode cJ3_grow 115 = .ok (.iadd, 1) := dk_96 (dk_at dksJ3_grow_4 22 rfl rfl)
theorem dJ3_grow_116 : decode cJ3_grow 116 = .ok (.iload_n 2, 1) := dk_28 (dk_at dksJ3_grow_4 23 rfl rfl)
theorem dJ3_grow_117 : decode cJ3_grow 117 = .ok (.aload_n 0, 1) := dk_42 (dk_at dksJ3_grow_5 0 rfl rfl)
theorem dJ3_grow_118 : decode cJ3_grow 118 = .ok (.getfield 24, 3) := dk_180 0 24 (dk_at dksJ3_grow_5 1 rfl rfl)
theorem dJ3_grow_121 : decode cJ3_grow 121 = .ok (.isub, 1) := dk_100 (dk_at dksJ3_grow_5 4 rfl rfl)
theorem dJ3_grow_122 : decode cJ3_grow 122 = .ok (.invokestatic 27, 3) := dk_184 0 27 (dk_at dksJ3_grow_5 5 rfl rfl)
theorem dJ3_grow_125 : decode cJ3_grow 125 = .ok (.aload_n 0, 1) := dk_42 (dk_at dksJ3_grow_5 8 rfl rfl)
theorem dJ3_grow_126 : decode cJ3_grow 126 = .ok (.getfield 24, 3) := dk_180 0 24 (dk_at dksJ3_grow_5 9 rfl rfl)
theorem dJ3_grow_129 : decode cJ3_grow 129 = .ok (.istore 7, 2) := dk_54 7 (dk_at dksJ3_grow_5 12 rfl rfl)
theorem dJ3_grow_131 : decode cJ3_grow 131 = .ok (.aload_n 0, 1) := dk_42 (dk_at dksJ3_grow_5 14 rfl rfl)
theorem dJ3_grow_132 : decode cJ3_grow 132 = .ok (.dup, 1) := dk_89 (dk_at dksJ3_grow_5 15 rfl rfl)
theorem dJ3_grow_133 : decode cJ3_grow 133 = .ok (.getfield 24, 3) := dk_180 0 24 (dk_at dksJ3_grow_5 16 rfl rfl)
theorem dJ3_grow_136 : decode cJ3_grow 136 = .ok (.iload 6, 2) := dk_21 6 (dk_at dksJ3_grow_5 19 rfl rfl)
theorem dJ3_grow_138 : decode cJ3_grow 138 = .ok (.iadd, 1) := dk_96 (dk_at dksJ3_grow_5 21 rfl rfl)
theorem dJ3_grow_139 : decode cJ3_grow 139 = .ok (.dup_x1, 1) := dk_90 (dk_at dksJ3_grow_5 22 rfl rfl)
theorem dJ3_grow_140 : decode cJ3_grow 140 = .ok (.putfield 24, 3) := dk_181 0 24 (dk_at dksJ3_grow_6 0 rfl rfl)
theorem dJ3_grow_143 : decode cJ3_grow 143 = .ok (.istore 8, 2) := dk_54 8 (dk_at dksJ3_grow_6 3 rfl rfl)
theorem dJ3_grow_145 : decode cJ3_grow 145 = .ok (.iload 7, 2) := dk_21 7 (dk_at dksJ3_grow_6 5 rfl rfl)
theorem dJ3_grow_147 : decode cJ3_grow 147 = .ok (.iload 8, 2) := dk_21 8 (dk_at dksJ3_grow_6 7 rfl rfl)
theorem dJ3_grow_149 : decode cJ3_grow 149 = .ok (.if_icmp .ge 15, 3) := dk_162 0 15 (dk_at dksJ3_grow_6 9 rfl rfl)
theorem dJ3_grow_152 : decode cJ3_grow 152 = .ok (.aload 5, 2) := dk_25 5 (dk_at dksJ3_grow_6 12 rfl rfl)
theorem dJ3_grow_154 : decode cJ3_grow 154 = .ok (.iload 7, 2) := dk_21 7 (dk_at dksJ3_grow_6 14 rfl rfl)
theorem dJ3_grow_156 : decode cJ3_grow 156 = .ok (.aconst_null, 1) := dk_1 (dk_at dksJ3_grow_6 16 rfl rfl)
theorem dJ3_grow_157 : decode cJ3_grow 157 = .ok (.aastore, 1) := dk_83 (dk_at dksJ3_grow_6 17 rfl rfl)
theorem dJ3_grow_158 : decode cJ3_grow 158 = .ok (.iinc 7 1, 3) := dk_132 7 1 (dk_at dksJ3_grow_6 18 rfl rfl)
theorem dJ3_grow_161 : decode cJ3_grow 161 = .ok (.goto (-16), 3) := dk_167 255 240 (dk_at dksJ3_grow_6 21 rfl rfl)
theorem dJ3_grow_164 : decode cJ3_grow 164 = .ok (.return_, 1) := dk_177 (dk_at dksJ3_grow_7 0 rfl rfl)
/-- java/util/ArrayDeque.grow(I)V -/
def zb146 (G : zPg) (C : zO) (args : List Value) (Q : zQ) (Y : zY) (σ : zS) : Prop := ∃ (a0 : Nat) (x1 : Int32), args = [.ref a0, .int x1] ∧ (zgR σ (some a0) 3 0 (fun v1 => zln σ 4 v1 (fun v11 => zJ (fun (p13 : Int32) (s14 : zS) => zJ (fun (p16 : Int32) (s17 : zS) => zgR s17 (some a0) 3 0 (fun v19 => zcl C 406 [va_rf v19, .int p16] Y s17 (zqR (fun v25 s26 => zput s26 G.1 (some a0) 3 0 (va_rf v25) (fun s28 => zgI s28 (some a0) 3 2 (fun v36 => zgI s28 (some a0) 3 1 (fun v42 => zJ (fun  (s48 : zS) => Q none s48) (fun (j49 : zS → Prop) => zJ (fun  (s50 : zS) => zgI s50 (some a0) 3 1 (fun v52 => zgI s50 (some a0) 3 1 (fun v58 => zgI s50 (some a0) 3 1 (fun v64 => zacp s50 G.1 4 [0, 1, 2, 3, 4, 5, 6, 7, 8, 9, 10, 11, 12, 13, 14, 15, 16, 17, 18, 19, 20, 21, 22, 23, 24, 25, 26, 27, 28, 29, 30] v25 v52 v25 (v58 + (p16 - v11)) (v11 - v64) (fun s70 => zgI s70 (some a0) 3 1 (fun v71 => zgI s70 (some a0) 3 1 (fun v77 => zput s70 G.1 (some a0) 3 1 (.int (v77 + (p16 - v11))) (fun s83 => ∃ n, zIt (fun _ _ => False) (fun rec93 (p91 : Int32) (s92 : zS) => (((v77 + (p16 - v11)) ≤ p91) → j49 s92) ∧ ((¬ (v77 + (p16 - v11)) ≤ p91) → zsR s92 G.1 4 [0, 1, 2, 3, 4, 5, 6, 7, 8, 9, 10, 11, 12, 13, 14, 15, 16, 17, 18, 19, 20, 21, 22, 23, 24, 25, 26, 27, 28, 29, 30] v25 p91 none (fun s103 => (∀ v105 : Int32, v105 = p91 + (1 : Int32) → rec93 v105 s103)))) n v71 s83)))))))) (fun (j51 : zS → Prop) => ((v36 < v42) → j51 s28) ∧ ((¬ v36 < v42) → zgI s28 (some a0) 3 2 (fun v109 => zgI s28 (some a0) 3 1 (fun v115 => ((¬ v109 = v115) → j49 s28) ∧ ((v109 = v115) → zgI s28 (some a0) 3 1 (fun v122 => zaR s28 4 v25 v122 (fun v134 => ((v134 = none) → j49 s28) ∧ ((¬ v134 = none) → j51 s28)))))))))))))))) (fun (j18 : Int32 → zS → Prop) => zJ (fun  (s137 : zS) => zrc s137 (some a0) 3 (fun a142 => zcl C 147 [.ref a142, .int x1, .int p13] Y s137 (zqI (fun v139 s140 => j18 v139 s140)))) (fun (j138 : zS → Prop) => ((p13 < x1) → j138 s14) ∧ ((¬ p13 < x1) → ((((v11 + p13) - (2147483639 : Int32)) ≤ 0) → j18 (v11 + p13) s14) ∧ ((¬ ((v11 + p13) - (2147483639 : Int32)) ≤ 0) → j138 s14))))) (fun (j15 : Int32 → zS → Prop) => (((64 : Int32) ≤ v11) → j15 (v11 >>> ((1 : Int32) &&& 31)) σ) ∧ ((¬ (64 : Int32) ≤ v11) → j15 (v11 + (2 : Int32)) σ)))))
set_option maxHeartbeats 4000000 in
theorem wk146 {l : Launch} {g : zG} {d : Nat} {C : zO} (hG : zGk g) (hC : zSound l g d C) {args : List Value} {Q : zQ} {Y : zY} {σ : zS} (hw : zb146 (zpg g) C args Q Y σ) : zMet l g (d + 1) (⟨"java/util/ArrayDeque", "grow", "(I)V"⟩, Cond.code ⟨"java/util/ArrayDeque", "grow", "(I)V"⟩ prog_57_method_1_code 9 (Option.none : Option FieldType)) args σ Q Y := by
  obtain ⟨a0, x1, rfl, hw⟩ := hw
  refine zof hG (by decide +kernel) [false, false] ⟨rfl, rfl, trivial⟩ (Nat.le_of_ble_eq_true rfl) (ls := [some (va_rf (some a0)), some (.int x1), none, none, none, none, none, none, none]) rfl ?_
  intro X hX hR hTb hd1 hd2 hl hg hnm
  subst hl
  subst hg
  have hd : zDep X d := ⟨hd1, hd2⟩
  refine z_aload_n hX dJ3_grow_0 rfl (i := 0) rfl ?_
  obtain ⟨a2, f3, v1, r4, m5, e6, hw⟩ := hw
  refine z_get hX zc3 (k := 0) dJ3_grow_1 (Nat.le_of_ble_eq_true rfl) (zlk hX q296) r4 m5 e6 ?_
  obtain ⟨a7, n8, r9, m10, hw⟩ := hw
  refine z_alen hX 4 dJ3_grow_4 r9 m10 ?_
  revert hw
  generalize nI n8.1 = v11
  intro hw
  refine z_istore_n hX dJ3_grow_5 rfl (i := 2) (Nat.le_of_ble_eq_true rfl) rfl (ls2 := [some (va_rf (some a0)), some (.int x1), some (.int v11), none, none, none, none, none, none]) rfl ?_
  refine z_iload_n hX dJ3_grow_6 rfl (i := 2) rfl ?_
  refine z_bipush hX (v := (64 : Int32)) dJ3_grow_7 (by decide) ?_
  refine zJ_w (P := fun (j : Int32 → zS → Prop) => ∀ (p13 : Int32) (s14 : zS), j p13 s14 → zW X s14 21 [some (va_rf (some a0)), some (.int x1), some (.int v11), none, none, none, none, none, none] [.int p13]) hw (fun p13 s14 hw => ?_) (fun j15 hj15 hw => ?_)
  · refine z_istore hX dJ3_grow_21 (i := 4) (Nat.le_of_ble_eq_true rfl) trivial (ls2 := [some (va_rf (some a0)), some (.int x1), some (.int v11), none, some (.int p13), none, none, none, none]) rfl ?_
    refine z_iload hX dJ3_grow_23 (i := 4) rfl ?_
    refine z_iload_n hX dJ3_grow_25 rfl (i := 1) rfl ?_
    refine zJ_w (P := fun (j : Int32 → zS → Prop) => ∀ (p16 : Int32) (s17 : zS), j p16 s17 → zW X s17 49 [some (va_rf (some a0)), none, some (.int v11), some (.int p16), none, none, none, none, none] []) hw (fun p16 s17 hw => ?_) (fun j18 hj18 hw => ?_)
    · refine z_aload_n hX dJ3_grow_49 rfl (i := 0) rfl ?_
      refine z_aload_n hX dJ3_grow_50 rfl (i := 0) rfl ?_
      obtain ⟨a20, f21, v19, r22, m23, e24, hw⟩ := hw
      refine z_get hX zc3 (k := 0) dJ3_grow_51 (Nat.le_of_ble_eq_true rfl) (zlk hX q296) r22 m23 e24 ?_
      refine z_iload_n hX dJ3_grow_54 rfl (i := 3) rfl ?_
      refine z_invS hX hd dJ3_grow_55 (hC 406 _ zm406 _ _ _ _ hw) q943 q789 zh20 q790 q149 zn406 rfl (Nat.le_of_ble_eq_true rfl) (st := [va_rf (some a0)]) rfl (zcs8 (Nat.le_of_ble_eq_true rfl)) rfl (zkR (fun v25 s26 hw => ?_)) (zout hX hR hTb)
      refine z_dup_x1 hX dJ3_grow_58 (zc_rf _) (zc_rf _) ?_
      obtain ⟨a30, f31, r32, g33, m34, l35, hw⟩ := hw
      refine z_put hX zc3 (k := 0) dJ3_grow_59 (Nat.le_of_ble_eq_true rfl) (zlk hX q296) rfl (zn_a _ _) (zf_a _ _) r32 g33 m34 l35 (z_nm (fun s28 e29 => ?_))
      have hw := hw s28 e29
      refine z_astore hX dJ3_grow_62 (i := 5) (Nat.le_of_ble_eq_true rfl) trivial (ls2 := [some (va_rf (some a0)), none, some (.int v11), some (.int p16), none, some (va_rf v25), none, none, none]) rfl ?_
      refine z_aload_n hX dJ3_grow_64 rfl (i := 0) rfl ?_
      obtain ⟨a37, f38, v36, r39, m40, e41, hw⟩ := hw
      refine z_get hX zc3 (k := 2) dJ3_grow_65 (Nat.le_of_ble_eq_true rfl) (zlk hX q298) r39 m40 e41 ?_
      refine z_aload_n hX dJ3_grow_68 rfl (i := 0) rfl ?_
      obtain ⟨a43, f44, v42, r45, m46, e47, hw⟩ := hw
      refine z_get hX zc3 (k := 1) dJ3_grow_69 (Nat.le_of_ble_eq_true rfl) (zlk hX q297) r45 m46 e47 ?_
      refine zJ_w (P := fun (j : zS → Prop) => ∀  (s48 : zS), j  s48 → zW X s48 164 [none, none, none, none, none, none, none, none, none] []) hw (fun  s48 hw => ?_) (fun j49 hj49 hw => ?_)
      · exact z_return hX hR dJ3_grow_164 hw
      · refine zJ_w (P := fun (j : zS → Prop) => ∀  (s50 : zS), j  s50 → zW X s50 96 [some (va_rf (some a0)), none, some (.int v11), some (.int p16), none, some (va_rf v25), none, none, none] []) hw (fun  s50 hw => ?_) (fun j51 hj51 hw => ?_)
        · refine z_iload_n hX dJ3_grow_96 rfl (i := 3) rfl ?_
          refine z_iload_n hX dJ3_grow_97 rfl (i := 2) rfl ?_
          refine z_isub hX dJ3_grow_98 ?_
          refine z_istore hX dJ3_grow_99 (i := 6) (Nat.le_of_ble_eq_true rfl) (zc_rf _) (ls2 := [some (va_rf (some a0)), none, some (.int v11), some (.int p16), none, some (va_rf v25), some (.int (p16 - v11)), none, none]) rfl ?_
          refine z_aload hX dJ3_grow_101 (i := 5) rfl ?_
          refine z_aload_n hX dJ3_grow_103 rfl (i := 0) rfl ?_
          obtain ⟨a53, f54, v52, r55, m56, e57, hw⟩ := hw
          refine z_get hX zc3 (k := 1) dJ3_grow_104 (Nat.le_of_ble_eq_true rfl) (zlk hX q297) r55 m56 e57 ?_
          refine z_aload hX dJ3_grow_107 (i := 5) rfl ?_
          refine z_aload_n hX dJ3_grow_109 rfl (i := 0) rfl ?_
          obtain ⟨a59, f60, v58, r61, m62, e63, hw⟩ := hw
          refine z_get hX zc3 (k := 1) dJ3_grow_110 (Nat.le_of_ble_eq_true rfl) (zlk hX q297) r61 m62 e63 ?_
          refine z_iload hX dJ3_grow_113 (i := 6) rfl ?_
          refine z_iadd hX dJ3_grow_115 ?_
          refine z_iload_n hX dJ3_grow_116 rfl (i := 2) rfl ?_
          refine z_aload_n hX dJ3_grow_117 rfl (i := 0) rfl ?_
          obtain ⟨a65, f66, v64, r67, m68, e69, hw⟩ := hw
          refine z_get hX zc3 (k := 1) dJ3_grow_118 (Nat.le_of_ble_eq_true rfl) (zlk hX q297) r67 m68 e69 ?_
          refine z_isub hX dJ3_grow_121 ?_
          refine z_acp hX hd 4 dJ3_grow_122 q944 q835 q834 q150 (E := "java/lang/Object") (Or.inr ⟨rfl, rfl, (zfa1 ⟨_, rfl, Or.inr q3187⟩ (zfa1 ⟨_, rfl, Or.inr q3188⟩ (zfa1 ⟨_, rfl, Or.inr q3189⟩ (zfa1 ⟨_, rfl, Or.inr q3190⟩ (zfa1 ⟨_, rfl, Or.inr q3191⟩ (zfa1 ⟨_, rfl, Or.inr q3217⟩ (zfa1 ⟨_, rfl, Or.inr q3192⟩ (zfa1 ⟨_, rfl, Or.inr q3193⟩ (zfa1 ⟨_, rfl, Or.inr q3194⟩ (zfa1 ⟨_, rfl, Or.inr q3186⟩ (zfa1 ⟨_, rfl, Or.inr q3201⟩ (zfa1 ⟨_, rfl, Or.inr q3196⟩ (zfa1 ⟨_, rfl, Or.inr q3197⟩ (zfa1 ⟨_, rfl, Or.inr q3198⟩ (zfa1 ⟨_, rfl, Or.inr q3199⟩ (zfa1 ⟨_, rfl, Or.inr q3200⟩ (zfa1 ⟨_, rfl, Or.inr q3202⟩ (zfa1 ⟨_, rfl, Or.inr q3203⟩ (zfa1 ⟨_, rfl, Or.inr q3204⟩ (zfa1 ⟨_, rfl, Or.inr q3205⟩ (zfa1 ⟨_, rfl, Or.inr q3206⟩ (zfa1 ⟨_, rfl, Or.inr q3208⟩ (zfa1 ⟨_, rfl, Or.inr q3209⟩ (zfa1 ⟨_, rfl, Or.inr q3184⟩ (zfa1 ⟨_, rfl, Or.inr q3210⟩ (zfa1 ⟨_, rfl, Or.inr q3211⟩ (zfa1 ⟨_, rfl, Or.inr q3212⟩ (zfa1 ⟨_, rfl, Or.inr q3213⟩ (zfa1 ⟨_, rfl, Or.inr q3215⟩ (zfa1 ⟨_, rfl, Or.inr q3216⟩ (zfa1 ⟨_, rfl, Or.inl rfl⟩ (zfa0))))))))))))))))))))))))))))))))⟩) hw rfl (zcs8 (Nat.le_of_ble_eq_true rfl)) (fun s70 hw => ?_)
          refine z_aload_n hX dJ3_grow_125 rfl (i := 0) rfl ?_
          obtain ⟨a72, f73, v71, r74, m75, e76, hw⟩ := hw
          refine z_get hX zc3 (k := 1) dJ3_grow_126 (Nat.le_of_ble_eq_true rfl) (zlk hX q297) r74 m75 e76 ?_
          refine z_istore hX dJ3_grow_129 (i := 7) (Nat.le_of_ble_eq_true rfl) rfl (ls2 := [some (va_rf (some a0)), none, some (.int v11), some (.int p16), none, some (va_rf v25), some (.int (p16 - v11)), some (.int v71), none]) rfl ?_
          refine z_aload_n hX dJ3_grow_131 rfl (i := 0) rfl ?_
          refine z_dup hX dJ3_grow_132 (zc_rf _) ?_
          obtain ⟨a78, f79, v77, r80, m81, e82, hw⟩ := hw
          refine z_get hX zc3 (k := 1) dJ3_grow_133 (Nat.le_of_ble_eq_true rfl) (zlk hX q297) r80 m81 e82 ?_
          refine z_iload hX dJ3_grow_136 (i := 6) rfl ?_
          refine z_iadd hX dJ3_grow_138 ?_
          refine z_dup_x1 hX dJ3_grow_139 rfl (zc_rf _) ?_
          obtain ⟨a85, f86, r87, g88, m89, l90, hw⟩ := hw
          refine z_put hX zc3 (k := 1) dJ3_grow_140 (Nat.le_of_ble_eq_true rfl) (zlk hX q297) rfl rfl rfl r87 g88 m89 l90 (z_nm (fun s83 e84 => ?_))
          have hw := hw s83 e84
          refine z_istore hX dJ3_grow_143 (i := 8) (Nat.le_of_ble_eq_true rfl) rfl (ls2 := [some (va_rf (some a0)), none, some (.int v11), some (.int p16), none, some (va_rf v25), some (.int (p16 - v11)), some (.int v71), some (.int (v77 + (p16 - v11)))]) rfl ?_
          obtain ⟨n107, hw⟩ := hw
          refine z_sub (ls' := [none, none, none, none, none, some (va_rf v25), none, some (.int v71), some (.int (v77 + (p16 - v11)))]) (zsN (zsN (zsN (zsN (zsN (zsS (zsN (zsS (zsS (zs0)))))))))) ?_
          refine zIt_w (P := fun (j : Int32 → zS → Prop) => ∀ (p91 : Int32) (s92 : zS), j p91 s92 → zW X s92 145 [none, none, none, none, none, some (va_rf v25), none, some (.int p91), some (.int (v77 + (p16 - v11)))] []) (fun _ _ h => h.elim) (fun rec93 hrec93 p91 s92 hw => ?_) n107 _ _ hw
          refine z_iload hX dJ3_grow_145 (i := 7) rfl ?_
          refine z_iload hX dJ3_grow_147 (i := 8) rfl ?_
          refine z_icmp_ge hX dJ3_grow_149 (tgt := 164) rfl (fun c94 => ?_) (fun c94 => ?_)
          · have hw := hw.1 c94
            refine z_sub (ls' := [none, none, none, none, none, none, none, none, none]) (zsN (zsN (zsN (zsN (zsN (zsN (zsN (zsN (zsN (zs0)))))))))) ?_
            exact hj49  _ hw
          · have hw := hw.2 c94
            refine z_aload hX dJ3_grow_152 (i := 5) rfl ?_
            refine z_iload hX dJ3_grow_154 (i := 7) rfl ?_
            refine z_null hX dJ3_grow_156 ?_
            obtain ⟨a95, n96, f97, r98, g99, m100, i101, c102, hw⟩ := hw
            refine z_aastM hX 4 dJ3_grow_157 rfl rfl (zfa1 ⟨_, rfl, Or.inr q3187⟩ (zfa1 ⟨_, rfl, Or.inr q3188⟩ (zfa1 ⟨_, rfl, Or.inr q3189⟩ (zfa1 ⟨_, rfl, Or.inr q3190⟩ (zfa1 ⟨_, rfl, Or.inr q3191⟩ (zfa1 ⟨_, rfl, Or.inr q3217⟩ (zfa1 ⟨_, rfl, Or.inr q3192⟩ (zfa1 ⟨_, rfl, Or.inr q3193⟩ (zfa1 ⟨_, rfl, Or.inr q3194⟩ (zfa1 ⟨_, rfl, Or.inr q3186⟩ (zfa1 ⟨_, rfl, Or.inr q3201⟩ (zfa1 ⟨_, rfl, Or.inr q3196⟩ (zfa1 ⟨_, rfl, Or.inr q3197⟩ (zfa1 ⟨_, rfl, Or.inr q3198⟩ (zfa1 ⟨_, rfl, Or.inr q3199⟩ (zfa1 ⟨_, rfl, Or.inr q3200⟩ (zfa1 ⟨_, rfl, Or.inr q3202⟩ (zfa1 ⟨_, rfl, Or.inr q3203⟩ (zfa1 ⟨_, rfl, Or.inr q3204⟩ (zfa1 ⟨_, rfl, Or.inr q3205⟩ (zfa1 ⟨_, rfl, Or.inr q3206⟩ (zfa1 ⟨_, rfl, Or.inr q3208⟩ (zfa1 ⟨_, rfl, Or.inr q3209⟩ (zfa1 ⟨_, rfl, Or.inr q3184⟩ (zfa1 ⟨_, rfl, Or.inr q3210⟩ (zfa1 ⟨_, rfl, Or.inr q3211⟩ (zfa1 ⟨_, rfl, Or.inr q3212⟩ (zfa1 ⟨_, rfl, Or.inr q3213⟩ (zfa1 ⟨_, rfl, Or.inr q3215⟩ (zfa1 ⟨_, rfl, Or.inr q3216⟩ (zfa1 ⟨_, rfl, Or.inl rfl⟩ (zfa0)))))))))))))))))))))))))))))))) r98 g99 m100 i101 c102 (z_nm (fun s103 e104 => ?_))
            have hw := hw s103 e104
            obtain ⟨v105, e106⟩ : ∃ y : Int32, y = p91 + (1 : Int32) := ⟨_, rfl⟩
            refine z_iinc hX dJ3_grow_158 (i := 7) (v := v105) rfl (by rw [e106]; rfl) (Nat.le_of_ble_eq_true rfl) trivial (ls2 := [none, none, none, none, none, some (va_rf v25), none, some (.int v105), some (.int (v77 + (p16 - v11)))]) rfl ?_
            have hw := hw v105 e106
            refine z_goto hX dJ3_grow_161 (tgt := 145) rfl ?_
            exact hrec93 _ _ hw
        · refine z_icmp_lt hX dJ3_grow_72 (tgt := 96) rfl (fun c108 => ?_) (fun c108 => ?_)
          · have hw := hw.1 c108
            exact hj51  _ hw
          · have hw := hw.2 c108
            refine z_aload_n hX dJ3_grow_75 rfl (i := 0) rfl ?_
            obtain ⟨a110, f111, v109, r112, m113, e114, hw⟩ := hw
            refine z_get hX zc3 (k := 2) dJ3_grow_76 (Nat.le_of_ble_eq_true rfl) (zlk hX q298) r112 m113 e114 ?_
            refine z_aload_n hX dJ3_grow_79 rfl (i := 0) rfl ?_
            obtain ⟨a116, f117, v115, r118, m119, e120, hw⟩ := hw
            refine z_get hX zc3 (k := 1) dJ3_grow_80 (Nat.le_of_ble_eq_true rfl) (zlk hX q297) r118 m119 e120 ?_
            refine z_icmp_ne hX dJ3_grow_83 (tgt := 164) rfl (fun c121 => ?_) (fun c121 => ?_)
            · have hw := hw.1 c121
              refine z_sub (ls' := [none, none, none, none, none, none, none, none, none]) (zsN (zsN (zsN (zsN (zsN (zsN (zsN (zsN (zsN (zs0)))))))))) ?_
              exact hj49  _ hw
            · have hw := hw.2 c121
              refine z_aload hX dJ3_grow_86 (i := 5) rfl ?_
              refine z_aload_n hX dJ3_grow_88 rfl (i := 0) rfl ?_
              obtain ⟨a123, f124, v122, r125, m126, e127, hw⟩ := hw
              refine z_get hX zc3 (k := 1) dJ3_grow_89 (Nat.le_of_ble_eq_true rfl) (zlk hX q297) r125 m126 e127 ?_
              obtain ⟨a128, n129, f130, r131, m132, i133, hw⟩ := hw
              refine z_aald hX 4 dJ3_grow_92 rfl r131 m132 i133 ?_
              revert hw
              generalize f130 (Int32.toNatClampNeg v122) = v134
              intro hw
              refine z_ifnull hX dJ3_grow_93 (tgt := 164) rfl (fun c136 => ?_) (fun c136 => ?_)
              · have hw := hw.1 c136
                refine z_sub (ls' := [none, none, none, none, none, none, none, none, none]) (zsN (zsN (zsN (zsN (zsN (zsN (zsN (zsN (zsN (zs0)))))))))) ?_
                exact hj49  _ hw
              · have hw := hw.2 c136
                exact hj51  _ hw
    · refine zJ_w (P := fun (j : zS → Prop) => ∀  (s137 : zS), j  s137 → zW X s137 41 [some (va_rf (some a0)), some (.int x1), some (.int v11), none, some (.int p13), none, none, none, none] []) hw (fun  s137 hw => ?_) (fun j138 hj138 hw => ?_)
      · refine z_aload_n hX dJ3_grow_41 rfl (i := 0) rfl ?_
        refine z_iload_n hX dJ3_grow_42 rfl (i := 1) rfl ?_
        refine z_iload hX dJ3_grow_43 (i := 4) rfl ?_
        obtain ⟨a142, f143, r144, m145, hw⟩ := hw
        refine z_invV hX hd r144 (ci := 3) rfl rfl m145 dJ3_grow_45 (hC 147 _ zm147 _ _ _ _ hw) q938 q940 qs17 zh6 q941 q135 zn147 rfl (Nat.le_of_ble_eq_true rfl) (st := []) rfl (zcs8 (Nat.le_of_ble_eq_true rfl)) rfl (zkI (fun v139 s140 hw => ?_)) (zout hX hR hTb)
        refine z_istore_n hX dJ3_grow_48 rfl (i := 3) (Nat.le_of_ble_eq_true rfl) rfl (ls2 := [some (va_rf (some a0)), some (.int x1), some (.int v11), some (.int v139), some (.int p13), none, none, none, none]) rfl ?_
        refine z_sub (ls' := [some (va_rf (some a0)), none, some (.int v11), some (.int v139), none, none, none, none, none]) (zsS (zsN (zsS (zsS (zsN (zsN (zsN (zsN (zsN (zs0)))))))))) ?_
        exact hj18 _ _ hw
      · refine z_icmp_lt hX dJ3_grow_26 (tgt := 41) rfl (fun c146 => ?_) (fun c146 => ?_)
        · have hw := hw.1 c146
          exact hj138  _ hw
        · have hw := hw.2 c146
          refine z_iload_n hX dJ3_grow_29 rfl (i := 2) rfl ?_
          refine z_iload hX dJ3_grow_30 (i := 4) rfl ?_
          refine z_iadd hX dJ3_grow_32 ?_
          refine z_dup hX dJ3_grow_33 rfl ?_
          refine z_istore_n hX dJ3_grow_34 rfl (i := 3) (Nat.le_of_ble_eq_true rfl) rfl (ls2 := [some (va_rf (some a0)), some (.int x1), some (.int v11), some (.int (v11 + p13)), some (.int p13), none, none, none, none]) rfl ?_
          refine z_ldc hX dJ3_grow_35 q937 ?_
          refine z_isub hX dJ3_grow_37 ?_
          refine z_if_le hX dJ3_grow_38 (tgt := 49) rfl (fun c147 => ?_) (fun c147 => ?_)
          · have hw := hw.1 c147
            refine z_sub (ls' := [some (va_rf (some a0)), none, some (.int v11), some (.int (v11 + p13)), none, none, none, none, none]) (zsS (zsN (zsS (zsS (zsN (zsN (zsN (zsN (zsN (zs0)))))))))) ?_
            exact hj18 _ _ hw
          · have hw := hw.2 c147
            refine z_sub (ls' := [some (va_rf (some a0)), some (.int x1), some (.int v11), none, some (.int p13), none, none, none, none]) (zsS (zsS (zsS (zsN (zsS (zsN (zsN (zsN (zsN (zs0)))))))))) ?_
            exact hj138  _ hw
  · refine z_icmp_ge hX dJ3_grow_9 (tgt := 18) rfl (fun c148 => ?_) (fun c148 => ?_)
    · have hw := hw.1 c148
      refine z_iload_n hX dJ3_grow_18 rfl (i := 2) rfl ?_
      refine z_iconst hX (v := (1 : Int32)) dJ3_grow_19 (by decide) ?_
      refine z_ishr hX dJ3_grow_20 ?_
      exact hj15 _ _ hw
    · have hw := hw.2 c148
      refine z_iload_n hX dJ3_grow_12 rfl (i := 2) rfl ?_
      refine z_iconst hX (v := (2 : Int32)) dJ3_grow_13 (by decide) ?_
      refine z_iadd hX dJ3_grow_14 ?_
      refine z_goto hX dJ3_grow_15 (tgt := 21) rfl ?_
      exact hj15 _ _ hw
abbrev cJ3_newCapacity : ByteArray := prog_57_method_2_code
def yJ3_newCapacity : MethodName := ⟨RJ3, "newCapacity", "(II)I"⟩
def dkwJ3_newCapacity_2 : List UInt8 := [18, 9, 100, 156, 0, 9, 29, 28, 96, 167, 0, 5, 18, 9, 172]
abbrev dktJ3_newCapacity_2 : List UInt8 := dkwJ3_newCapacity_2 ++ []
def dkwJ3_newCapacity_1 : List UInt8 := [187, 0, 33, 89, 18, 35, 183, 0, 37, 191, 18, 41, 172, 27, 28, 164, 0, 6, 21, 4, 172, 29, 28, 96]
abbrev dktJ3_newCapacity_1 : List UInt8 := dkwJ3_newCapacity_1 ++ dktJ3_newCapacity_2
def dkwJ3_newCapacity_0 : List UInt8 := [42, 180, 0, 3, 190, 62, 29, 27, 96, 89, 54, 4, 18, 9, 100, 158, 0, 21, 21, 4, 156, 0, 13]
abbrev dktJ3_newCapacity_0 : List UInt8 := dkwJ3_newCapacity_0 ++ dktJ3_newCapacity_1
theorem dksJ3_newCapacity_0 : cJ3_newCapacity.data.toList.drop 0 = dktJ3_newCapacity_0 := by decide +kernel
theorem dksJ3_newCapacity_1 : cJ3_newCapacity.data.toList.drop 23 = dktJ3_newCapacity_1 := dk_seg dksJ3_newCapacity_0 23 rfl rfl
theorem dksJ3_newCapacity_2 : cJ3_newCapacity.data.toList.drop 47 = dktJ3_newCapacity_2 := dk_seg dksJ3_newCapacity_1 24 rfl rfl
theorem dJ3_newCapacity_0 : decode cJ3_newCapacity 0 = .ok (.aload_n 0, 1) := dk_42 (dk_at dksJ3_newCapacity_0 0 rfl rfl)
theorem dJ3_newCapacity_1 : decode cJ3_newCapacity 1 = .ok (.getfield 3, 3) := dk_180 0 3 (dk_at dksJ3_newCapacity_0 1 rfl rfl)
theorem dJ3_newCapacity_4 : decode cJ3_newCapacity 4 = .ok (.arraylength, 1) := dk_190 (dk_at dksJ3_newCapacity_0 4 rfl rfl)
theorem dJ3_newCapacity_5 : decode cJ3_newCapacity 5 = .ok (.istore_n 3, 1) := dk_62 (dk_at dksJ3_newCapacity_0 5 rfl rfl)
theorem dJ3_newCapacity_6 : decode cJ3_newCapacity 6 = .ok (.iload_n 3, 1) := dk_29 (dk_at dksJ3_newCapacity_0 6 rfl rfl)
theorem dJ3_newCapacity_7 : decode cJ3_newCapacity 7 = .ok (.iload_n 1, 1) := dk_27 (dk_at dksJ3_newCapacity_0 7 rfl rfl)
theorem dJ3_newCapacity_8 : decode cJ3_newCapacity 8 = .ok (.iadd, 1) := dk_96 (dk_at dksJ3_newCapacity_0 8 rfl rfl)
theorem dJ3_newCapacity_9 : decode cJ3_newCapacity 9 = .ok (.dup, 1) := dk_89 (dk_at dksJ3_newCapacity_0 9 rfl rfl)
theorem dJ3_newCapacity_10 : decode cJ3_newCapacity 10 = .ok (.istore 4, 2) := dk_54 4 (dk_at dksJ3_newCapacity_0 10 rfl rfl)
theorem dJ3_newCapacity_12 : decode cJ3_newCapacity 12 = .ok (.ldc 9, 2) := dk_18 9 (dk_at dksJ3_newCapacity_0 12 rfl rfl)
theorem dJ3_newCapacity_14 : decode cJ3_newCapacity 14 = .ok (.isub, 1) := dk_100 (dk_at dksJ3_newCapacity_0 14 rfl rfl)
theorem dJ3_newCapacity_15 : decode cJ3_newCapacity 15 = .ok (.ifCond .le 21, 3) := dk_158 0 21 (dk_at dksJ3_newCapacity_0 15 rfl rfl)
theorem dJ3_newCapacity_18 : decode cJ3_newCapacity 18 = .ok (.iload 4, 2) := dk_21 4 (dk_at dksJ3_newCapacity_0 18 rfl rfl)
theorem dJ3_newCapacity_20 : decode cJ3_newCapacity 20 = .ok (.ifCond .ge 13, 3) := dk_156 0 13 (dk_at dksJ3_newCapacity_0 20 rfl rfl)
theorem dJ3_newCapacity_23 : decode cJ3_newCapacity 23 = .ok (.new 33, 3) := dk_187 0 33 (dk_at dksJ3_newCapacity_1 0 rfl rfl)
theorem dJ3_newCapacity_26 : decode cJ3_newCapacity 26 = .ok (.dup, 1) := dk_89 (dk_at dksJ3_newCapacity_1 3 rfl rfl)
theorem dJ3_newCapacity_27 : decode cJ3_newCapacity 27 = .ok (.ldc 35, 2) := dk_18 35 (dk_at dksJ3_newCapacity_1 4 rfl rfl)
theorem dJ3_newCapacity_29 : decode cJ3_newCapacity 29 = .ok (.invokespecial 37, 3) := dk_183 0 37 (dk_at dksJ3_newCapacity_1 6 rfl rfl)
theorem dJ3_newCapacity_32 : decode cJ3_newCapacity 32 = .ok (.athrow, 1) := dk_191 (dk_at dksJ3_newCapacity_1 9 rfl rfl)
theorem dJ3_newCapacity_33 : decode cJ3_newCapacity 33 = .ok (.ldc 41, 2) := dk_18 41 (dk_at dksJ3_newCapacity_1 10 rfl rfl)
theorem dJ3_newCapacity_35 : decode cJ3_newCapacity 35 = .ok (.ireturn, 1) := dk_172 (dk_at dksJ3_newCapacity_1 12 rfl rfl)
theorem dJ3_newCapacity_36 : decode cJ3_newCapacity 36 = .ok (.iload_n 1, 1) := dk_27 (dk_at dksJ3_newCapacity_1 13 rfl rfl)
theorem dJ3_newCapacity_37 : decode cJ3_newCapacity 37 = .ok (.iload_n 2, 1) := dk_28 (dk_at dksJ3_newCapacity_1 14 rfl rfl)
theorem dJ3_newCapacity_38 : decode cJ3_newCapacity 38 = .ok (.if_icmp .le 6, 3) := dk_164 0 6 (dk_at dksJ3_newCapacity_1 15 rfl rfl)
theorem dJ3_newCapacity_41 : decode cJ3_newCapacity 41 = .ok (.iload 4, 2) := dk_21 4 (dk_at dksJ3_newCapacity_1 18 rfl rfl)
theorem dJ3_newCapacity_43 : decode cJ3_newCapacity 43 = .ok (.ireturn, 1) := dk_172 (dk_at dksJ3_newCapacity_1 20 rfl rfl)
theorem dJ3_newCapacity_44 : decode cJ3_newCapacity 44 = .ok (.iload_n 3, 1) := dk_29 (dk_at dksJ3_newCapacity_1 21 rfl rfl)
theorem dJ3_newCapacity_45 : decode cJ3_newCapacity 45 = .ok (.iload_n 2, 1) := dk_28 (dk_at dksJ3_newCapacity_1 22 rfl rfl)
theorem dJ3_newCapacity_46 : decode cJ3_newCapacity 46 = .ok (.iadd, 1) := dk_96 (dk_at dksJ3_newCapacity_1 23 rfl rfl)
theorem dJ3_newCapacity_47 : decode cJ3_newCapacity 47 = .ok (.ldc 9, 2) := dk_18 9 (dk_at dksJ3_newCapacity_2 0 rfl rfl)
theorem dJ3_newCapacity_49 : decode cJ3_newCapacity 49 = .ok (.isub, 1) := dk_100 (dk_at dksJ3_newCapacity_2 2 rfl rfl)
theorem dJ3_newCapacity_50 : decode cJ3_newCapacity 50 = .ok (.ifCond .ge 9, 3) := dk_156 0 9 (dk_at dksJ3_newCapacity_2 3 rfl rfl)
theorem dJ3_newCapacity_53 : decode cJ3_newCapacity 53 = .ok (.iload_n 3, 1) := dk_29 (dk_at dksJ3_newCapacity_2 6 rfl rfl)
theorem dJ3_newCapacity_54 : decode cJ3_newCapacity 54 = .ok (.iload_n 2, 1) := dk_28 (dk_at dksJ3_newCapacity_2 7 rfl rfl)
theorem dJ3_newCapacity_55 : decode cJ3_newCapacity 55 = .ok (.iadd, 1) := dk_96 (dk_at dksJ3_newCapacity_2 8 rfl rfl)
theorem dJ3_newCapacity_56 : decode cJ3_newCapacity 56 = .ok (.goto 5, 3) := dk_167 0 5 (dk_at dksJ3_newCapacity_2 9 rfl rfl)
theorem dJ3_newCapacity_59 : decode cJ3_newCapacity 59 = .ok (.ldc 9, 2) := dk_18 9 (dk_at dksJ3_newCapacity_2 12 rfl rfl)
theorem dJ3_newCapacity_61 : decode cJ3_newCapacity 61 = .ok (.ireturn, 1) := dk_172 (dk_at dksJ3_newCapacity_2 14 rfl rfl)
/-- java/util/ArrayDeque.newCapacity(II)I -/
def zb147 (G : zPg) (C : zO) (args : List Value) (Q : zQ) (Y : zY) (σ : zS) : Prop := ∃ (a0 : Nat) (x1 : Int32) (x2 : Int32), args = [.ref a0, .int x1, .int x2] ∧ (zgR σ (some a0) 3 0 (fun v1 => zln σ 4 v1 (fun v11 => ((((v11 + x1) - (2147483639 : Int32)) ≤ 0) → ((x1 ≤ x2) → zJ (fun (p15 : Int32) (s16 : zS) => Q (some (.int p15)) s16) (fun (j17 : Int32 → zS → Prop) => ((0 ≤ ((v11 + x2) - (2147483639 : Int32))) → j17 (2147483639 : Int32) σ) ∧ ((¬ 0 ≤ ((v11 + x2) - (2147483639 : Int32))) → j17 (v11 + x2) σ))) ∧ ((¬ x1 ≤ x2) → Q (some (.int (v11 + x1))) σ)) ∧ ((¬ ((v11 + x1) - (2147483639 : Int32)) ≤ 0) → ((0 ≤ (v11 + x1)) → Q (some (.int (2147483647 : Int32))) σ) ∧ ((¬ 0 ≤ (v11 + x1)) → False)))))
set_option maxHeartbeats 4000000 in
theorem wk147 {l : Launch} {g : zG} {d : Nat} {C : zO} (hG : zGk g) (hC : zSound l g d C) {args : List Value} {Q : zQ} {Y : zY} {σ : zS} (hw : zb147 (zpg g) C args Q Y σ) : zMet l g (d + 1) (⟨"java/util/ArrayDeque", "newCapacity", "(II)I"⟩, Cond.code ⟨"java/util/ArrayDeque", "newCapacity", "(II)I"⟩ prog_57_method_2_code 5 (Option.some FieldType.int)) args σ Q Y := by
  obtain ⟨a0, x1, x2, rfl, hw⟩ := hw
  refine zof hG (by decide +kernel) [false, false, false] ⟨rfl, rfl, rfl, trivial⟩ (Nat.le_of_ble_eq_true rfl) (ls := [some (va_rf (some a0)), some (.int x1), some (.int x2), none, none]) rfl ?_
  intro X hX hR hTb hd1 hd2 hl hg hnm
  subst hl
  subst hg
  have hd : zDep X d := ⟨hd1, hd2⟩
  refine z_aload_n hX dJ3_newCapacity_0 rfl (i := 0) rfl ?_
  obtain ⟨a2, f3, v1, r4, m5, e6, hw⟩ := hw
  refine z_get hX zc3 (k := 0) dJ3_newCapacity_1 (Nat.le_of_ble_eq_true rfl) (zlk hX q296) r4 m5 e6 ?_
  obtain ⟨a7, n8, r9, m10, hw⟩ := hw
  refine z_alen hX 4 dJ3_newCapacity_4 r9 m10 ?_
  revert hw
  generalize nI n8.1 = v11
  intro hw
  refine z_istore_n hX dJ3_newCapacity_5 rfl (i := 3) (Nat.le_of_ble_eq_true rfl) rfl (ls2 := [some (va_rf (some a0)), some (.int x1), some (.int x2), some (.int v11), none]) rfl ?_
  refine z_iload_n hX dJ3_newCapacity_6 rfl (i := 3) rfl ?_
  refine z_iload_n hX dJ3_newCapacity_7 rfl (i := 1) rfl ?_
  refine z_iadd hX dJ3_newCapacity_8 ?_
  refine z_dup hX dJ3_newCapacity_9 rfl ?_
  refine z_istore hX dJ3_newCapacity_10 (i := 4) (Nat.le_of_ble_eq_true rfl) rfl (ls2 := [some (va_rf (some a0)), some (.int x1), some (.int x2), some (.int v11), some (.int (v11 + x1))]) rfl ?_
  refine z_ldc hX dJ3_newCapacity_12 q937 ?_
  refine z_isub hX dJ3_newCapacity_14 ?_
  refine z_if_le hX dJ3_newCapacity_15 (tgt := 36) rfl (fun c13 => ?_) (fun c13 => ?_)
  · have hw := hw.1 c13
    refine z_iload_n hX dJ3_newCapacity_36 rfl (i := 1) rfl ?_
    refine z_iload_n hX dJ3_newCapacity_37 rfl (i := 2) rfl ?_
    refine z_icmp_le hX dJ3_newCapacity_38 (tgt := 44) rfl (fun c14 => ?_) (fun c14 => ?_)
    · have hw := hw.1 c14
      refine z_iload_n hX dJ3_newCapacity_44 rfl (i := 3) rfl ?_
      refine z_iload_n hX dJ3_newCapacity_45 rfl (i := 2) rfl ?_
      refine z_iadd hX dJ3_newCapacity_46 ?_
      refine z_ldc hX dJ3_newCapacity_47 q937 ?_
      refine z_isub hX dJ3_newCapacity_49 ?_
      refine zJ_w (P := fun (j : Int32 → zS → Prop) => ∀ (p15 : Int32) (s16 : zS), j p15 s16 → zW X s16 61 [none, none, none, none, none] [.int p15]) hw (fun p15 s16 hw => ?_) (fun j17 hj17 hw => ?_)
      · exact z_ireturn hX hR dJ3_newCapacity_61 rfl hw
      · refine z_if_ge hX dJ3_newCapacity_50 (tgt := 59) rfl (fun c18 => ?_) (fun c18 => ?_)
        · have hw := hw.1 c18
          refine z_ldc hX dJ3_newCapacity_59 q937 ?_
          refine z_sub (ls' := [none, none, none, none, none]) (zsN (zsN (zsN (zsN (zsN (zs0)))))) ?_
          exact hj17 _ _ hw
        · have hw := hw.2 c18
          refine z_iload_n hX dJ3_newCapacity_53 rfl (i := 3) rfl ?_
          refine z_iload_n hX dJ3_newCapacity_54 rfl (i := 2) rfl ?_
          refine z_iadd hX dJ3_newCapacity_55 ?_
          refine z_goto hX dJ3_newCapacity_56 (tgt := 61) rfl ?_
          refine z_sub (ls' := [none, none, none, none, none]) (zsN (zsN (zsN (zsN (zsN (zs0)))))) ?_
          exact hj17 _ _ hw
    · have hw := hw.2 c14
      refine z_iload hX dJ3_newCapacity_41 (i := 4) rfl ?_
      exact z_ireturn hX hR dJ3_newCapacity_43 rfl hw
  · have hw := hw.2 c13
    refine z_iload hX dJ3_newCapacity_18 (i := 4) rfl ?_
    refine z_if_ge hX dJ3_newCapacity_20 (tgt := 33) rfl (fun c19 => ?_) (fun c19 => ?_)
    · have hw := hw.1 c19
      refine z_ldc hX dJ3_newCapacity_33 q942 ?_
      exact z_ireturn hX hR dJ3_newCapacity_35 rfl hw
    · have hw := hw.2 c19
      exact hw.elim
abbrev cJ3_isEmpty : ByteArray := prog_57_method_38_code
def yJ3_isEmpty : MethodName := ⟨RJ3, "isEmpty", "()Z"⟩
def dkwJ3_isEmpty_0 : List UInt8 := [42, 180, 0, 24, 42, 180, 0, 20, 160, 0, 7, 4, 167, 0, 4, 3, 172]
abbrev dktJ3_isEmpty_0 : List UInt8 := dkwJ3_isEmpty_0 ++ []
theorem dksJ3_isEmpty_0 : cJ3_isEmpty.data.toList.drop 0 = dktJ3_isEmpty_0 := by decide +kernel
theorem dJ3_isEmpty_0 : decode cJ3_isEmpty 0 = .ok (.aload_n 0, 1) := dk_42 (dk_at dksJ3_isEmpty_0 0 rfl rfl)
theorem dJ3_isEmpty_1 : decode cJ3_isEmpty 1 = .ok (.getfield 24, 3) := dk_180 0 24 (dk_at dksJ3_isEmpty_0 1 rfl rfl)
theorem dJ3_isEmpty_4 : decode cJ3_isEmpty 4 = .ok (.aload_n 0, 1) := dk_42 (dk_at dksJ3_isEmpty_0 4 rfl rfl)
theorem dJ3_isEmpty_5 : decode cJ3_isEmpty 5 = .ok (.getfield 20, 3) := dk_180 0 20 (dk_at dksJ3_isEmpty_0 5 rfl rfl)
theorem dJ3_isEmpty_8 : decode cJ3_isEmpty 8 = .ok (.if_icmp .ne 7, 3) := dk_160 0 7 (dk_at dksJ3_isEmpty_0 8 rfl rfl)
theorem dJ3_isEmpty_11 : decode cJ3_isEmpty 11 = .ok (.iconst 1, 1) := dk_4 (dk_at dksJ3_isEmpty_0 11 rfl rfl)
theorem dJ3_isEmpty_12 : decode cJ3_isEmpty 12 = .ok (.goto 4, 3) := dk_167 0 4 (dk_at dksJ3_isEmpty_0 12 rfl rfl)
theorem dJ3_isEmpty_15 : decode cJ3_isEmpty 15 = .ok (.iconst 0, 1) := dk_3 (dk_at dksJ3_isEmpty_0 15 rfl rfl)
theorem dJ3_isEmpty_16 : decode cJ3_isEmpty 16 = .ok (.ireturn, 1) := dk_172 (dk_at dksJ3_isEmpty_0 16 rfl rfl)
/-- java/util/ArrayDeque.isEmpty()Z -/
def zb148 (G : zPg) (C : zO) (args : List Value) (Q : zQ) (Y : zY) (σ : zS) : Prop := ∃ (a0 : Nat), args = [.ref a0] ∧ (zgI σ (some a0) 3 1 (fun v1 => zgI σ (some a0) 3 2 (fun v7 => zJ (fun (p13 : Int32) (s14 : zS) => zbool p13 ∧ Q (some (.int p13)) s14) (fun (j15 : Int32 → zS → Prop) => ((¬ v1 = v7) → j15 (0 : Int32) σ) ∧ ((v1 = v7) → j15 (1 : Int32) σ)))))
set_option maxHeartbeats 4000000 in
theorem wk148 {l : Launch} {g : zG} {d : Nat} {C : zO} (hG : zGk g) (hC : zSound l g d C) {args : List Value} {Q : zQ} {Y : zY} {σ : zS} (hw : zb148 (zpg g) C args Q Y σ) : zMet l g (d + 1) (⟨"java/util/ArrayDeque", "isEmpty", "()Z"⟩, Cond.code ⟨"java/util/ArrayDeque", "isEmpty", "()Z"⟩ prog_57_method_38_code 1 (Option.some FieldType.boolean)) args σ Q Y := by
  obtain ⟨a0, rfl, hw⟩ := hw
  refine zof hG (by decide +kernel) [false] ⟨rfl, trivial⟩ (Nat.le_of_ble_eq_true rfl) (ls := [some (va_rf (some a0))]) rfl ?_
  intro X hX hR hTb hd1 hd2 hl hg hnm
  subst hl
  subst hg
  have hd : zDep X d := ⟨hd1, hd2⟩
  refine z_aload_n hX dJ3_isEmpty_0 rfl (i := 0) rfl ?_
  obtain ⟨a2, f3, v1, r4, m5, e6, hw⟩ := hw
  refine z_get hX zc3 (k := 1) dJ3_isEmpty_1 (Nat.le_of_ble_eq_true rfl) (zlk hX q297) r4 m5 e6 ?_
  refine z_aload_n hX dJ3_isEmpty_4 rfl (i := 0) rfl ?_
  obtain ⟨a8, f9, v7, r10, m11, e12, hw⟩ := hw
  refine z_get hX zc3 (k := 2) dJ3_isEmpty_5 (Nat.le_of_ble_eq_true rfl) (zlk hX q298) r10 m11 e12 ?_
  refine zJ_w (P := fun (j : Int32 → zS → Prop) => ∀ (p13 : Int32) (s14 : zS), j p13 s14 → zW X s14 16 [none] [.int p13]) hw (fun p13 s14 hw => ?_) (fun j15 hj15 hw => ?_)
  · exact z_ireturn hX hR dJ3_isEmpty_16 (zn_z hw.1) hw.2
  · refine z_icmp_ne hX dJ3_isEmpty_8 (tgt := 15) rfl (fun c16 => ?_) (fun c16 => ?_)
    · have hw := hw.1 c16
      refine z_iconst hX (v := (0 : Int32)) dJ3_isEmpty_15 (by decide) ?_
      refine z_sub (ls' := [none]) (zsN (zs0)) ?_
      exact hj15 _ _ hw
    · have hw := hw.2 c16
      refine z_iconst hX (v := (1 : Int32)) dJ3_isEmpty_11 (by decide) ?_
      refine z_goto hX dJ3_isEmpty_12 (tgt := 16) rfl ?_
      refine z_sub (ls' := [none]) (zsN (zs0)) ?_
      exact hj15 _ _ hw
abbrev cJ3_removeLast : ByteArray := prog_57_method_19_code
def yJ3_removeLast : MethodName := ⟨RJ3, "removeLast", "()Ljava/lang/Object;"⟩
def dkwJ3_removeLast_0 : List UInt8 := [42, 182, 0, 100, 76, 43, 199, 0, 11, 187, 0, 97, 89, 183, 0, 99, 191, 43, 176]
abbrev dktJ3_removeLast_0 : List UInt8 := dkwJ3_removeLast_0 ++ []
theorem dksJ3_removeLast_0 : cJ3_removeLast.data.toList.drop 0 = dktJ3_removeLast_0 := by decide +kernel
theorem dJ3_removeLast_0 : decode cJ3_removeLast 0 = .ok (.aload_n 0, 1) := dk_42 (dk_at dksJ3_removeLast_0 0 rfl rfl)
theorem dJ3_removeLast_1 : decode cJ3_removeLast 1 = .ok (.invokevirtual 100, 3) := dk_182 0 100 (dk_at dksJ3_removeLast_0 1 rfl rfl)
theorem dJ3_removeLast_4 : decode cJ3_removeLast 4 = .ok (.astore_n 1, 1) := dk_76 (dk_at dksJ3_removeLast_0 4 rfl rfl)
theorem dJ3_removeLast_5 : decode cJ3_removeLast 5 = .ok (.aload_n 1, 1) := dk_43 (dk_at dksJ3_removeLast_0 5 rfl rfl)
theorem dJ3_removeLast_6 : decode cJ3_removeLast 6 = .ok (.ifnonnull 11, 3) := dk_199 0 11 (dk_at dksJ3_removeLast_0 6 rfl rfl)
theorem dJ3_removeLast_9 : decode cJ3_removeLast 9 = .ok (.new 97, 3) := dk_187 0 97 (dk_at dksJ3_removeLast_0 9 rfl rfl)
theorem dJ3_removeLast_12 : decode cJ3_removeLast 12 = .ok (.dup, 1) := dk_89 (dk_at dksJ3_removeLast_0 12 rfl rfl)
theorem dJ3_removeLast_13 : decode cJ3_removeLast 13 = .ok (.invokespecial 99, 3) := dk_183 0 99 (dk_at dksJ3_removeLast_0 13 rfl rfl)
theorem dJ3_removeLast_16 : decode cJ3_removeLast 16 = .ok (.athrow, 1) := dk_191 (dk_at dksJ3_removeLast_0 16 rfl rfl)
theorem dJ3_removeLast_17 : decode cJ3_removeLast 17 = .ok (.aload_n 1, 1) := dk_43 (dk_at dksJ3_removeLast_0 17 rfl rfl)
theorem dJ3_removeLast_18 : decode cJ3_removeLast 18 = .ok (.areturn, 1) := dk_176 (dk_at dksJ3_removeLast_0 18 rfl rfl)
/-- java/util/ArrayDeque.removeLast()Ljava/lang/Object; -/
def zb149 (G : zPg) (C : zO) (args : List Value) (Q : zQ) (Y : zY) (σ : zS) : Prop := ∃ (a0 : Nat), args = [.ref a0] ∧ (zrc σ (some a0) 3 (fun a4 => zcl C 150 [.ref a4] Y σ (zqR (fun v1 s2 => ((¬ v1 = none) → Q (some (va_rf v1)) s2) ∧ ((v1 = none) → znew s2 16 [] 6 (fun s9 => (∃ a15, (some s2.2.1) = some a15 ∧ zcl C 457 [.ref a15] Y s9 (zqV (fun s13 => ∃ q17, (some s2.2.1) = some q17 ∧ Y q17 s13)))))))))
set_option maxHeartbeats 4000000 in
theorem wk149 {l : Launch} {g : zG} {d : Nat} {C : zO} (hG : zGk g) (hC : zSound l g d C) {args : List Value} {Q : zQ} {Y : zY} {σ : zS} (hw : zb149 (zpg g) C args Q Y σ) : zMet l g (d + 1) (⟨"java/util/ArrayDeque", "removeLast", "()Ljava/lang/Object;"⟩, Cond.code ⟨"java/util/ArrayDeque", "removeLast", "()Ljava/lang/Object;"⟩ prog_57_method_19_code 2 (Option.some (FieldType.object "java/lang/Object"))) args σ Q Y := by
  obtain ⟨a0, rfl, hw⟩ := hw
  refine zof hG (by decide +kernel) [false] ⟨rfl, trivial⟩ (Nat.le_of_ble_eq_true rfl) (ls := [some (va_rf (some a0)), none]) rfl ?_
  intro X hX hR hTb hd1 hd2 hl hg hnm
  subst hl
  subst hg
  have hd : zDep X d := ⟨hd1, hd2⟩
  refine z_aload_n hX dJ3_removeLast_0 rfl (i := 0) rfl ?_
  obtain ⟨a4, f5, r6, m7, hw⟩ := hw
  refine z_invV hX hd r6 (ci := 3) rfl rfl m7 dJ3_removeLast_1 (hC 150 _ zm150 _ _ _ _ hw) q978 q979 q980 zh6 q981 q135 zn150 rfl (Nat.le_of_ble_eq_true rfl) (st := []) rfl (zcs8 (Nat.le_of_ble_eq_true rfl)) rfl (zkR (fun v1 s2 hw => ?_)) (zout hX hR hTb)
  refine z_astore_n hX dJ3_removeLast_4 rfl (i := 1) (Nat.le_of_ble_eq_true rfl) (zc_rf _) (ls2 := [some (va_rf (some a0)), some (va_rf v1)]) rfl ?_
  refine z_aload_n hX dJ3_removeLast_5 rfl (i := 1) rfl ?_
  refine z_ifnonnull hX dJ3_removeLast_6 (tgt := 17) rfl (fun c8 => ?_) (fun c8 => ?_)
  · have hw := hw.1 c8
    refine z_aload_n hX dJ3_removeLast_17 rfl (i := 1) rfl ?_
    exact z_areturn hX hR dJ3_removeLast_18 (Or.inl ⟨_, rfl⟩) hw
  · have hw := hw.2 c8
    refine z_new hX zc16 dJ3_removeLast_9 q863 q864 q165 (fs := []) (fun j hj => absurd hj (Nat.not_lt_zero _)) hw.1 hw.2.1 (fun z10 => z_nm (fun s9 e11 => ?_))
    have hw := hw.2.2 z10 s9 e11
    refine z_dup hX dJ3_removeLast_12 (zc_rf _) ?_
    obtain ⟨a15, r16, hw⟩ := hw
    refine z_invI hX hd r16 dJ3_removeLast_13 (hC 457 _ zm457 _ _ _ _ hw) q906 q907 rfl zh33 q908 q165 zn457 rfl (Nat.le_of_ble_eq_true rfl) (st := [va_rf (some s2.2.1)]) rfl (zcs8 (Nat.le_of_ble_eq_true rfl)) rfl (zkV (fun s13 hw => ?_)) (zout hX hR hTb)
    obtain ⟨q17, r18, hw⟩ := hw
    exact z_athrow hX dJ3_removeLast_16 r18 ((zout hX hR hTb) _ _ hw)
abbrev cJ3_pollLast : ByteArray := prog_57_method_21_code
def yJ3_pollLast : MethodName := ⟨RJ3, "pollLast", "()Ljava/lang/Object;"⟩
def dkwJ3_pollLast_1 : List UInt8 := [198, 0, 12, 43, 42, 28, 90, 181, 0, 20, 1, 83, 45, 176]
abbrev dktJ3_pollLast_1 : List UInt8 := dkwJ3_pollLast_1 ++ []
def dkwJ3_pollLast_0 : List UInt8 := [42, 180, 0, 3, 89, 76, 42, 180, 0, 20, 43, 190, 184, 0, 68, 89, 61, 184, 0, 103, 78, 45]
abbrev dktJ3_pollLast_0 : List UInt8 := dkwJ3_pollLast_0 ++ dktJ3_pollLast_1
theorem dksJ3_pollLast_0 : cJ3_pollLast.data.toList.drop 0 = dktJ3_pollLast_0 := by decide +kernel
theorem dksJ3_pollLast_1 : cJ3_pollLast.data.toList.drop 22 = dktJ3_pollLast_1 := dk_seg dksJ3_pollLast_0 22 rfl rfl
theorem dJ3_pollLast_0 : decode cJ3_pollLast 0 = .ok (.aload_n 0, 1) := dk_42 (dk_at dksJ3_pollLast_0 0 rfl rfl)
theorem dJ3_pollLast_1 : decode cJ3_pollLast 1 = .ok (.getfield 3, 3) := dk_180 0 3 (dk_at dksJ3_pollLast_0 1 rfl rfl)
theorem dJ3_pollLast_4 : decode cJ3_pollLast 4 = .ok (.dup, 1) := dk_89 (dk_at dksJ3_pollLast_0 4 rfl rfl)
theorem dJ3_pollLast_5 : decode cJ3_pollLast 5 = .ok (.astore_n 1, 1) := dk_76 (dk_at dksJ3_pollLast_0 5 rfl rfl)
theorem dJ3_pollLast_6 : decode cJ3_pollLast 6 = .ok (.aload_n 0, 1) := dk_42 (dk_at dksJ3_pollLast_0 6 rfl rfl)
theorem dJ3_pollLast_7 : decode cJ3_pollLast 7 = .ok (.getfield 20, 3) := dk_180 0 20 (dk_at dksJ3_pollLast_0 7 rfl rfl)
theorem dJ3_pollLast_10 : decode cJ3_pollLast 10 = .ok (.aload_n 1, 1) := dk_43 (dk_at dksJ3_pollLast_0 10 rfl rfl)
theorem dJ3_pollLast_11 : decode cJ3_pollLast 11 = .ok (.arraylength, 1) := dk_190 (dk_at dksJ3_pollLast_0 11 rfl rfl)
theorem dJ3_pollLast_12 : decode cJ3_pollLast 12 = .ok (.invokestatic 68, 3) := dk_184 0 68 (dk_at dksJ3_pollLast_0 12 rfl rfl)
theorem dJ3_pollLast_15 : decode cJ3_pollLast 15 = .ok (.dup, 1) := dk_89 (dk_at dksJ3_pollLast_0 15 rfl rfl)
theorem dJ3_pollLast_16 : decode cJ3_pollLast 16 = .ok (.istore_n 2, 1) := dk_61 (dk_at dksJ3_pollLast_0 16 rfl rfl)
theorem dJ3_pollLast_17 : decode cJ3_pollLast 17 = .ok (.invokestatic 103, 3) := dk_184 0 103 (dk_at dksJ3_pollLast_0 17 rfl rfl)
theorem dJ3_pollLast_20 : decode cJ3_pollLast 20 = .ok (.astore_n 3, 1) := dk_78 (dk_at dksJ3_pollLast_0 20 rfl rfl)
theorem dJ3_pollLast_21 : decode cJ3_pollLast 21 = .ok (.aload_n 3, 1) := dk_45 (dk_at dksJ3_pollLast_0 21 rfl rfl)
theorem dJ3_pollLast_22 : decode cJ3_pollLast 22 = .ok (.ifnull 12, 3) := dk_198 0 12 (dk_at dksJ3_pollLast_1 0 rfl rfl)
theorem dJ3_pollLast_25 : decode cJ3_pollLast 25 = .ok (.aload_n 1, 1) := dk_43 (dk_at dksJ3_pollLast_1 3 rfl rfl)
theorem dJ3_pollLast_26 : decode cJ3_pollLast 26 = .ok (.aload_n 0, 1) := dk_42 (dk_at dksJ3_pollLast_1 4 rfl rfl)
theorem dJ3_pollLast_27 : decode cJ3_pollLast 27 = .ok (.iload_n 2, 1) := dk_28 (dk_at dksJ3_pollLast_1 5 rfl rfl)
theorem dJ3_pollLast_28 : decode cJ3_pollLast 28 = .ok (.dup_x1, 1) := dk_90 (dk_at dksJ3_pollLast_1 6 rfl rfl)
theorem dJ3_pollLast_29 : decode cJ3_pollLast 29 = .ok (.putfield 20, 3) := dk_181 0 20 (dk_at dksJ3_pollLast_1 7 rfl rfl)
theorem dJ3_pollLast_32 : decode cJ3_pollLast 32 = .ok (.aconst_null, 1) := dk_1 (dk_at dksJ3_pollLast_1 10 rfl rfl)
theorem dJ3_pollLast_33 : decode cJ3_pollLast 33 = .ok (.aastore, 1) := dk_83 (dk_at dksJ3_pollLast_1 11 rfl rfl)
theorem dJ3_pollLast_34 : decode cJ3_pollLast 34 = .ok (.aload_n 3, 1) := dk_45 (dk_at dksJ3_pollLast_1 12 rfl rfl)
theorem dJ3_pollLast_35 : decode cJ3_pollLast 35 = .ok (.areturn, 1) := dk_176 (dk_at dksJ3_pollLast_1 13 rfl rfl)
/-- java/util/ArrayDeque.pollLast()Ljava/lang/Object; -/
def zb150 (G : zPg) (C : zO) (args : List Value) (Q : zQ) (Y : zY) (σ : zS) : Prop := ∃ (a0 : Nat), args = [.ref a0] ∧ (zgR σ (some a0) 3 0 (fun v1 => zgI σ (some a0) 3 2 (fun v7 => zln σ 4 v1 (fun v17 => zcl C 151 [.int v7, .int v17] Y σ (zqI (fun v19 s20 => zcl C 143 [va_rf v1, .int v19] Y s20 (zqR (fun v22 s23 => zJ (fun  (s25 : zS) => Q (some (va_rf v22)) s25) (fun (j26 : zS → Prop) => ((v22 = none) → j26 s23) ∧ ((¬ v22 = none) → zput s23 G.1 (some a0) 3 2 (.int v19) (fun s28 => zsR s28 G.1 4 [0, 1, 2, 3, 4, 5, 6, 7, 8, 9, 10, 11, 12, 13, 14, 15, 16, 17, 18, 19, 20, 21, 22, 23, 24, 25, 26, 27, 28, 29, 30] v1 v19 none (fun s44 => j26 s44))))))))))))
set_option maxHeartbeats 4000000 in
theorem wk150 {l : Launch} {g : zG} {d : Nat} {C : zO} (hG : zGk g) (hC : zSound l g d C) {args : List Value} {Q : zQ} {Y : zY} {σ : zS} (hw : zb150 (zpg g) C args Q Y σ) : zMet l g (d + 1) (⟨"java/util/ArrayDeque", "pollLast", "()Ljava/lang/Object;"⟩, Cond.code ⟨"java/util/ArrayDeque", "pollLast", "()Ljava/lang/Object;"⟩ prog_57_method_21_code 4 (Option.some (FieldType.object "java/lang/Object"))) args σ Q Y := by
  obtain ⟨a0, rfl, hw⟩ := hw
  refine zof hG (by decide +kernel) [false] ⟨rfl, trivial⟩ (Nat.le_of_ble_eq_true rfl) (ls := [some (va_rf (some a0)), none, none, none]) rfl ?_
  intro X hX hR hTb hd1 hd2 hl hg hnm
  subst hl
  subst hg
  have hd : zDep X d := ⟨hd1, hd2⟩
  refine z_aload_n hX dJ3_pollLast_0 rfl (i := 0) rfl ?_
  obtain ⟨a2, f3, v1, r4, m5, e6, hw⟩ := hw
  refine z_get hX zc3 (k := 0) dJ3_pollLast_1 (Nat.le_of_ble_eq_true rfl) (zlk hX q296) r4 m5 e6 ?_
  refine z_dup hX dJ3_pollLast_4 (zc_rf _) ?_
  refine z_astore_n hX dJ3_pollLast_5 rfl (i := 1) (Nat.le_of_ble_eq_true rfl) (zc_rf _) (ls2 := [some (va_rf (some a0)), some (va_rf v1), none, none]) rfl ?_
  refine z_aload_n hX dJ3_pollLast_6 rfl (i := 0) rfl ?_
  obtain ⟨a8, f9, v7, r10, m11, e12, hw⟩ := hw
  refine z_get hX zc3 (k := 2) dJ3_pollLast_7 (Nat.le_of_ble_eq_true rfl) (zlk hX q298) r10 m11 e12 ?_
  refine z_aload_n hX dJ3_pollLast_10 rfl (i := 1) rfl ?_
  obtain ⟨a13, n14, r15, m16, hw⟩ := hw
  refine z_alen hX 4 dJ3_pollLast_11 r15 m16 ?_
  revert hw
  generalize nI n14.1 = v17
  intro hw
  refine z_invS hX hd dJ3_pollLast_12 (hC 151 _ zm151 _ _ _ _ hw) q982 q983 zh6 q984 q135 zn151 rfl (Nat.le_of_ble_eq_true rfl) (st := [va_rf v1]) rfl (zcs8 (Nat.le_of_ble_eq_true rfl)) rfl (zkI (fun v19 s20 hw => ?_)) (zout hX hR hTb)
  refine z_dup hX dJ3_pollLast_15 rfl ?_
  refine z_istore_n hX dJ3_pollLast_16 rfl (i := 2) (Nat.le_of_ble_eq_true rfl) (zc_rf _) (ls2 := [some (va_rf (some a0)), some (va_rf v1), some (.int v19), none]) rfl ?_
  refine z_invS hX hd dJ3_pollLast_17 (hC 143 _ zm143 _ _ _ _ hw) q857 q858 zh6 q859 q135 zn143 rfl (Nat.le_of_ble_eq_true rfl) (st := []) rfl (zcs8 (Nat.le_of_ble_eq_true rfl)) rfl (zkR (fun v22 s23 hw => ?_)) (zout hX hR hTb)
  refine z_astore_n hX dJ3_pollLast_20 rfl (i := 3) (Nat.le_of_ble_eq_true rfl) rfl (ls2 := [some (va_rf (some a0)), some (va_rf v1), some (.int v19), some (va_rf v22)]) rfl ?_
  refine z_aload_n hX dJ3_pollLast_21 rfl (i := 3) rfl ?_
  refine zJ_w (P := fun (j : zS → Prop) => ∀  (s25 : zS), j  s25 → zW X s25 34 [none, none, none, some (va_rf v22)] []) hw (fun  s25 hw => ?_) (fun j26 hj26 hw => ?_)
  · refine z_aload_n hX dJ3_pollLast_34 rfl (i := 3) rfl ?_
    exact z_areturn hX hR dJ3_pollLast_35 (Or.inl ⟨_, rfl⟩) hw
  · refine z_ifnull hX dJ3_pollLast_22 (tgt := 34) rfl (fun c27 => ?_) (fun c27 => ?_)
    · have hw := hw.1 c27
      refine z_sub (ls' := [none, none, none, some (va_rf v22)]) (zsN (zsN (zsN (zsS (zs0))))) ?_
      exact hj26  _ hw
    · have hw := hw.2 c27
      refine z_aload_n hX dJ3_pollLast_25 rfl (i := 1) rfl ?_
      refine z_aload_n hX dJ3_pollLast_26 rfl (i := 0) rfl ?_
      refine z_iload_n hX dJ3_pollLast_27 rfl (i := 2) rfl ?_
      refine z_dup_x1 hX dJ3_pollLast_28 rfl (zc_rf _) ?_
      obtain ⟨a30, f31, r32, g33, m34, l35, hw⟩ := hw
      refine z_put hX zc3 (k := 2) dJ3_pollLast_29 (Nat.le_of_ble_eq_true rfl) (zlk hX q298) rfl rfl rfl r32 g33 m34 l35 (z_nm (fun s28 e29 => ?_))
      have hw := hw s28 e29
      refine z_null hX dJ3_pollLast_32 ?_
      obtain ⟨a36, n37, f38, r39, g40, m41, i42, c43, hw⟩ := hw
      refine z_aastM hX 4 dJ3_pollLast_33 rfl rfl (zfa1 ⟨_, rfl, Or.inr q3187⟩ (zfa1 ⟨_, rfl, Or.inr q3188⟩ (zfa1 ⟨_, rfl, Or.inr q3189⟩ (zfa1 ⟨_, rfl, Or.inr q3190⟩ (zfa1 ⟨_, rfl, Or.inr q3191⟩ (zfa1 ⟨_, rfl, Or.inr q3217⟩ (zfa1 ⟨_, rfl, Or.inr q3192⟩ (zfa1 ⟨_, rfl, Or.inr q3193⟩ (zfa1 ⟨_, rfl, Or.inr q3194⟩ (zfa1 ⟨_, rfl, Or.inr q3186⟩ (zfa1 ⟨_, rfl, Or.inr q3201⟩ (zfa1 ⟨_, rfl, Or.inr q3196⟩ (zfa1 ⟨_, rfl, Or.inr q3197⟩ (zfa1 ⟨_, rfl, Or.inr q3198⟩ (zfa1 ⟨_, rfl, Or.inr q3199⟩ (zfa1 ⟨_, rfl, Or.inr q3200⟩ (zfa1 ⟨_, rfl, Or.inr q3202⟩ (zfa1 ⟨_, rfl, Or.inr q3203⟩ (zfa1 ⟨_, rfl, Or.inr q3204⟩ (zfa1 ⟨_, rfl, Or.inr q3205⟩ (zfa1 ⟨_, rfl, Or.inr q3206⟩ (zfa1 ⟨_, rfl, Or.inr q3208⟩ (zfa1 ⟨_, rfl, Or.inr q3209⟩ (zfa1 ⟨_, rfl, Or.inr q3184⟩ (zfa1 ⟨_, rfl, Or.inr q3210⟩ (zfa1 ⟨_, rfl, Or.inr q3211⟩ (zfa1 ⟨_, rfl, Or.inr q3212⟩ (zfa1 ⟨_, rfl, Or.inr q3213⟩ (zfa1 ⟨_, rfl, Or.inr q3215⟩ (zfa1 ⟨_, rfl, Or.inr q3216⟩ (zfa1 ⟨_, rfl, Or.inl rfl⟩ (zfa0)))))))))))))))))))))))))))))))) r39 g40 m41 i42 c43 (z_nm (fun s44 e45 => ?_))
      have hw := hw s44 e45
      refine z_sub (ls' := [none, none, none, some (va_rf v22)]) (zsN (zsN (zsN (zsS (zs0))))) ?_
      exact hj26  _ hw
abbrev cJ3_dec : ByteArray := prog_57_method_7_code
def yJ3_dec : MethodName := ⟨RJ3, "dec", "(II)I"⟩
def dkwJ3_dec_0 : List UInt8 := [132, 0, 255, 26, 156, 0, 7, 27, 4, 100, 59, 26, 172]
abbrev dktJ3_dec_0 : List UInt8 := dkwJ3_dec_0 ++ []
theorem dksJ3_dec_0 : cJ3_dec.data.toList.drop 0 = dktJ3_dec_0 := by decide +kernel
theorem dJ3_dec_0 : decode cJ3_dec 0 = .ok (.iinc 0 (-1), 3) := dk_132 0 255 (dk_at dksJ3_dec_0 0 rfl rfl)
theorem dJ3_dec_3 : decode cJ3_dec 3 = .ok (.iload_n 0, 1) := dk_26 (dk_at dksJ3_dec_0 3 rfl rfl)
theorem dJ3_dec_4 : decode cJ3_dec 4 = .ok (.ifCond .ge 7, 3) := dk_156 0 7 (dk_at dksJ3_dec_0 4 rfl rfl)
theorem dJ3_dec_7 : decode cJ3_dec 7 = .ok (.iload_n 1, 1) := dk_27 (dk_at dksJ3_dec_0 7 rfl rfl)
theorem dJ3_dec_8 : decode cJ3_dec 8 = .ok (.iconst 1, 1) := dk_4 (dk_at dksJ3_dec_0 8 rfl rfl)
theorem dJ3_dec_9 : decode cJ3_dec 9 = .ok (.isub, 1) := dk_100 (dk_at dksJ3_dec_0 9 rfl rfl)
theorem dJ3_dec_10 : decode cJ3_dec 10 = .ok (.istore_n 0, 1) := dk_59 (dk_at dksJ3_dec_0 10 rfl rfl)
theorem dJ3_dec_11 : decode cJ3_dec 11 = .ok (.iload_n 0, 1) := dk_26 (dk_at dksJ3_dec_0 11 rfl rfl)
theorem dJ3_dec_12 : decode cJ3_dec 12 = .ok (.ireturn, 1) := dk_172 (dk_at dksJ3_dec_0 12 rfl rfl)
/-- java/util/ArrayDeque.dec(II)I -/
def zb151 (G : zPg) (C : zO) (args : List Value) (Q : zQ) (Y : zY) (σ : zS) : Prop := ∃ (x1 : Int32) (x2 : Int32), args = [.int x1, .int x2] ∧ ((∀ v1 : Int32, v1 = x1 + (-1 : Int32) → zJ (fun (p3 : Int32) (s4 : zS) => Q (some (.int p3)) s4) (fun (j5 : Int32 → zS → Prop) => ((0 ≤ v1) → j5 v1 σ) ∧ ((¬ 0 ≤ v1) → j5 (x2 - (1 : Int32)) σ))))
set_option maxHeartbeats 4000000 in
theorem wk151 {l : Launch} {g : zG} {d : Nat} {C : zO} (hG : zGk g) (hC : zSound l g d C) {args : List Value} {Q : zQ} {Y : zY} {σ : zS} (hw : zb151 (zpg g) C args Q Y σ) : zMet l g (d + 1) (⟨"java/util/ArrayDeque", "dec", "(II)I"⟩, Cond.code ⟨"java/util/ArrayDeque", "dec", "(II)I"⟩ prog_57_method_7_code 2 (Option.some FieldType.int)) args σ Q Y := by
  obtain ⟨x1, x2, rfl, hw⟩ := hw
  refine zof hG (by decide +kernel) [false, false] ⟨rfl, rfl, trivial⟩ (Nat.le_of_ble_eq_true rfl) (ls := [some (.int x1), some (.int x2)]) rfl ?_
  intro X hX hR hTb hd1 hd2 hl hg hnm
  subst hl
  subst hg
  have hd : zDep X d := ⟨hd1, hd2⟩
  obtain ⟨v1, e2⟩ : ∃ y : Int32, y = x1 + (-1 : Int32) := ⟨_, rfl⟩
  refine z_iinc hX dJ3_dec_0 (i := 0) (v := v1) rfl (by rw [e2]; rfl) (Nat.le_of_ble_eq_true rfl) trivial (ls2 := [some (.int v1), some (.int x2)]) rfl ?_
  have hw := hw v1 e2
  refine z_iload_n hX dJ3_dec_3 rfl (i := 0) rfl ?_
  refine zJ_w (P := fun (j : Int32 → zS → Prop) => ∀ (p3 : Int32) (s4 : zS), j p3 s4 → zW X s4 11 [some (.int p3), none] []) hw (fun p3 s4 hw => ?_) (fun j5 hj5 hw => ?_)
  · refine z_iload_n hX dJ3_dec_11 rfl (i := 0) rfl ?_
    exact z_ireturn hX hR dJ3_dec_12 rfl hw
  · refine z_if_ge hX dJ3_dec_4 (tgt := 11) rfl (fun c6 => ?_) (fun c6 => ?_)
    · have hw := hw.1 c6
      refine z_sub (ls' := [some (.int v1), none]) (zsS (zsN (zs0))) ?_
      exact hj5 _ _ hw
    · have hw := hw.2 c6
      refine z_iload_n hX dJ3_dec_7 rfl (i := 1) rfl ?_
      refine z_iconst hX (v := (1 : Int32)) dJ3_dec_8 (by decide) ?_
      refine z_isub hX dJ3_dec_9 ?_
      refine z_istore_n hX dJ3_dec_10 rfl (i := 0) (Nat.le_of_ble_eq_true rfl) trivial (ls2 := [some (.int (x2 - (1 : Int32))), some (.int x2)]) rfl ?_
      refine z_sub (ls' := [some (.int (x2 - (1 : Int32))), none]) (zsS (zsN (zs0))) ?_
      exact hj5 _ _ hw
abbrev cJ3_clear : ByteArray := prog_57_method_53_code
def yJ3_clear : MethodName := ⟨RJ3, "clear", "()V"⟩
def dkwJ3_clear_1 : List UInt8 := [181, 0, 24, 177]
abbrev dktJ3_clear_1 : List UInt8 := dkwJ3_clear_1 ++ []
def dkwJ3_clear_0 : List UInt8 := [42, 180, 0, 3, 42, 180, 0, 24, 42, 180, 0, 20, 184, 0, 181, 42, 42, 3, 90, 181, 0, 20]
abbrev dktJ3_clear_0 : List UInt8 := dkwJ3_clear_0 ++ dktJ3_clear_1
theorem dksJ3_clear_0 : cJ3_clear.data.toList.drop 0 = dktJ3_clear_0 := by decide +kernel
theorem dksJ3_clear_1 : cJ3_clear.data.toList.drop 22 = dktJ3_clear_1 := dk_seg dksJ3_clear_0 22 rfl rfl
theorem dJ3_clear_0 : decode cJ3_clear 0 = .ok (.aload_n 0, 1) := dk_42 (dk_at dksJ3_clear_0 0 rfl rfl)
theorem dJ3_clear_1 : decode cJ3_clear 1 = .ok (.getfield 3, 3) := dk_180 0 3 (dk_at dksJ3_clear_0 1 rfl rfl)
theorem dJ3_clear_4 : decode cJ3_clear 4 = .ok (.aload_n 0, 1) := dk_42 (dk_at dksJ3_clear_0 4 rfl rfl)
theorem dJ3_clear_5 : decode cJ3_clear 5 = .ok (.getfield 24, 3) := dk_180 0 24 (dk_at dksJ3_clear_0 5 rfl rfl)
theorem dJ3_clear_8 : decode cJ3_clear 8 = .ok (.aload_n 0, 1) := dk_42 (dk_at dksJ3_clear_0 8 rfl rfl)
theorem dJ3_clear_9 : decode cJ3_clear 9 = .ok (.getfield 20, 3) := dk_180 0 20 (dk_at dksJ3_clear_0 9 rfl rfl)
theorem dJ3_clear_12 : decode cJ3_clear 12 = .ok (.invokestatic 181, 3) := dk_184 0 181 (dk_at dksJ3_clear_0 12 rfl rfl)
theorem dJ3_clear_15 : decode cJ3_clear 15 = .ok (.aload_n 0, 1) := dk_42 (dk_at dksJ3_clear_0 15 rfl rfl)
theorem dJ3_clear_16 : decode cJ3_clear 16 = .ok (.aload_n 0, 1) := dk_42 (dk_at dksJ3_clear_0 16 rfl rfl)
theorem dJ3_clear_17 : decode cJ3_clear 17 = .ok (.iconst 0, 1) := dk_3 (dk_at dksJ3_clear_0 17 rfl rfl)
theorem dJ3_clear_18 : decode cJ3_clear 18 = .ok (.dup_x1, 1) := dk_90 (dk_at dksJ3_clear_0 18 rfl rfl)
theorem dJ3_clear_19 : decode cJ3_clear 19 = .ok (.putfield 20, 3) := dk_181 0 20 (dk_at dksJ3_clear_0 19 rfl rfl)
theorem dJ3_clear_22 : decode cJ3_clear 22 = .ok (.putfield 24, 3) := dk_181 0 24 (dk_at dksJ3_clear_1 0 rfl rfl)
theorem dJ3_clear_25 : decode cJ3_clear 25 = .ok (.return_, 1) := dk_177 (dk_at dksJ3_clear_1 3 rfl rfl)
/-- java/util/ArrayDeque.clear()V -/
def zb152 (G : zPg) (C : zO) (args : List Value) (Q : zQ) (Y : zY) (σ : zS) : Prop := ∃ (a0 : Nat), args = [.ref a0] ∧ (zgR σ (some a0) 3 0 (fun v1 => zgI σ (some a0) 3 1 (fun v7 => zgI σ (some a0) 3 2 (fun v13 => zcl C 153 [va_rf v1, .int v7, .int v13] Y σ (zqV (fun s20 => zput s20 G.1 (some a0) 3 2 (.int (0 : Int32)) (fun s22 => zput s22 G.1 (some a0) 3 1 (.int (0 : Int32)) (fun s30 => Q none s30))))))))
set_option maxHeartbeats 4000000 in
theorem wk152 {l : Launch} {g : zG} {d : Nat} {C : zO} (hG : zGk g) (hC : zSound l g d C) {args : List Value} {Q : zQ} {Y : zY} {σ : zS} (hw : zb152 (zpg g) C args Q Y σ) : zMet l g (d + 1) (⟨"java/util/ArrayDeque", "clear", "()V"⟩, Cond.code ⟨"java/util/ArrayDeque", "clear", "()V"⟩ prog_57_method_53_code 1 (Option.none : Option FieldType)) args σ Q Y := by
  obtain ⟨a0, rfl, hw⟩ := hw
  refine zof hG (by decide +kernel) [false] ⟨rfl, trivial⟩ (Nat.le_of_ble_eq_true rfl) (ls := [some (va_rf (some a0))]) rfl ?_
  intro X hX hR hTb hd1 hd2 hl hg hnm
  subst hl
  subst hg
  have hd : zDep X d := ⟨hd1, hd2⟩
  refine z_aload_n hX dJ3_clear_0 rfl (i := 0) rfl ?_
  obtain ⟨a2, f3, v1, r4, m5, e6, hw⟩ := hw
  refine z_get hX zc3 (k := 0) dJ3_clear_1 (Nat.le_of_ble_eq_true rfl) (zlk hX q296) r4 m5 e6 ?_
  refine z_aload_n hX dJ3_clear_4 rfl (i := 0) rfl ?_
  obtain ⟨a8, f9, v7, r10, m11, e12, hw⟩ := hw
  refine z_get hX zc3 (k := 1) dJ3_clear_5 (Nat.le_of_ble_eq_true rfl) (zlk hX q297) r10 m11 e12 ?_
  refine z_aload_n hX dJ3_clear_8 rfl (i := 0) rfl ?_
  obtain ⟨a14, f15, v13, r16, m17, e18, hw⟩ := hw
  refine z_get hX zc3 (k := 2) dJ3_clear_9 (Nat.le_of_ble_eq_true rfl) (zlk hX q298) r16 m17 e18 ?_
  refine z_invS hX hd dJ3_clear_12 (hC 153 _ zm153 _ _ _ _ hw) q997 q998 zh6 q999 q135 zn153 rfl (Nat.le_of_ble_eq_true rfl) (st := []) rfl (zcs8 (Nat.le_of_ble_eq_true rfl)) rfl (zkV (fun s20 hw => ?_)) (zout hX hR hTb)
  refine z_aload_n hX dJ3_clear_15 rfl (i := 0) rfl ?_
  refine z_aload_n hX dJ3_clear_16 rfl (i := 0) rfl ?_
  refine z_iconst hX (v := (0 : Int32)) dJ3_clear_17 (by decide) ?_
  refine z_dup_x1 hX dJ3_clear_18 rfl (zc_rf _) ?_
  obtain ⟨a24, f25, r26, g27, m28, l29, hw⟩ := hw
  refine z_put hX zc3 (k := 2) dJ3_clear_19 (Nat.le_of_ble_eq_true rfl) (zlk hX q298) rfl rfl rfl r26 g27 m28 l29 (z_nm (fun s22 e23 => ?_))
  have hw := hw s22 e23
  obtain ⟨a32, f33, r34, g35, m36, l37, hw⟩ := hw
  refine z_put hX zc3 (k := 1) dJ3_clear_22 (Nat.le_of_ble_eq_true rfl) (zlk hX q297) rfl rfl rfl r34 g35 m36 l37 (z_nm (fun s30 e31 => ?_))
  have hw := hw s30 e31
  exact z_return hX hR dJ3_clear_25 hw
abbrev cJ3_circularClear : ByteArray := prog_57_method_54_code
def yJ3_circularClear : MethodName := ⟨RJ3, "circularClear", "([Ljava/lang/Object;II)V"⟩
def dkwJ3_circularClear_1 : List UInt8 := [167, 255, 244, 29, 28, 160, 0, 6, 167, 0, 10, 3, 60, 28, 62, 167, 255, 229, 177]
abbrev dktJ3_circularClear_1 : List UInt8 := dkwJ3_circularClear_1 ++ []
def dkwJ3_circularClear_0 : List UInt8 := [27, 28, 163, 0, 7, 28, 167, 0, 5, 42, 190, 62, 27, 29, 162, 0, 13, 42, 27, 1, 83, 132, 1, 1]
abbrev dktJ3_circularClear_0 : List UInt8 := dkwJ3_circularClear_0 ++ dktJ3_circularClear_1
theorem dksJ3_circularClear_0 : cJ3_circularClear.data.toList.drop 0 = dktJ3_circularClear_0 := by decide +kernel
theorem dksJ3_circularClear_1 : cJ3_circularClear.data.toList.drop 24 = dktJ3_circularClear_1 := dk_seg dksJ3_circularClear_0 24 rfl rfl
theorem dJ3_circularClear_0 : decode cJ3_circularClear 0 = .ok (.iload_n 1, 1) := dk_27 (dk_at dksJ3_circularClear_0 0 rfl rfl)
theorem dJ3_circularClear_1 : decode cJ3_circularClear 1 = .ok (.iload_n 2, 1) := dk_28 (dk_at dksJ3_circularClear_0 1 rfl rfl)
theorem dJ3_circularClear_2 : decode cJ3_circularClear 2 = .ok (.if_icmp .gt 7, 3) := dk_163 0 7 (dk_at dksJ3_circularClear_0 2 rfl rfl)
theorem dJ3_circularClear_5 : decode cJ3_circularClear 5 = .ok (.iload_n 2, 1) := dk_28 (dk_at dksJ3_circularClear_0 5 rfl rfl)
theorem dJ3_circularClear_6 : decode cJ3_circularClear 6 = .ok (.goto 5, 3) := dk_167 0 5 (dk_at dksJ3_circularClear_0 6 rfl rfl)
theorem dJ3_circularClear_9 : decode cJ3_circularClear 9 = .ok (.aload_n 0, 1) := dk_42 (dk_at dksJ3_circularClear_0 9 rfl rfl)
theorem dJ3_circularClear_10 : decode cJ3_circularClear 10 = .ok (.arraylength, 1) := dk_190 (dk_at dksJ3_circularClear_0 10 rfl rfl)
theorem dJ3_circularClear_11 : decode cJ3_circularClear 11 = .ok (.istore_n 3, 1) := dk_62 (dk_at dksJ3_circularClear_0 11 rfl rfl)
theorem dJ3_circularClear_12 : decode cJ3_circularClear 12 = .ok (.iload_n 1, 1) := dk_27 (dk_at dksJ3_circularClear_0 12 rfl rfl)
theorem dJ3_circularClear_13 : decode cJ3_circularClear 13 = .ok (.iload_n 3, 1) := dk_29 (dk_at dksJ3_circularClear_0 13 rfl rfl)
theorem dJ3_circularClear_14 : decode cJ3_circularClear 14 = .ok (.if_icmp .ge 13, 3) := dk_162 0 13 (dk_at dksJ3_circularClear_0 14 rfl rfl)
theorem dJ3_circularClear_17 : decode cJ3_circularClear 17 = .ok (.aload_n 0, 1) := dk_42 (dk_at dksJ3_circularClear_0 17 rfl rfl)
theorem dJ3_circularClear_18 : decode cJ3_circularClear 18 = .ok (.iload_n 1, 1) := dk_27 (dk_at dksJ3_circularClear_0 18 rfl rfl)
theorem dJ3_circularClear_19 : decode cJ3_circularClear 19 = .ok (.aconst_null, 1) := dk_1 (dk_at dksJ3_circularClear_0 19 rfl rfl)
theorem dJ3_circularClear_20 : decode cJ3_circularClear 20 = .ok (.aastore, 1) := dk_83 (dk_at dksJ3_circularClear_0 20 rfl rfl)
theorem dJ3_circularClear_21 : decode cJ3_circularClear 21 = .ok (.iinc 1 1, 3) := dk_132 1 1 (dk_at dksJ3_circularClear_0 21 rfl rfl)
theorem dJ3_circularClear_24 : decode cJ3_circularClear 24 = .ok (.goto (-12), 3) := dk_167 255 244 (dk_at dksJ3_circularClear_1 0 rfl rfl)
theorem dJ3_circularClear_27 : decode cJ3_circularClear 27 = .ok (.iload_n 3, 1) := dk_29 (dk_at dksJ3_circularClear_1 3 rfl rfl)
theorem dJ3_circularClear_28 : decode cJ3_circularClear 28 = .ok (.iload_n 2, 1) := dk_28 (dk_at dksJ3_circularClear_1 4 rfl rfl)
theorem dJ3_circularClear_29 : decode cJ3_circularClear 29 = .ok (.if_icmp .ne 6, 3) := dk_160 0 6 (dk_at dksJ3_circularClear_1 5 rfl rfl)
theorem dJ3_circularClear_32 : decode cJ3_circularClear 32 = .ok (.goto 10, 3) := dk_167 0 10 (dk_at dksJ3_circularClear_1 8 rfl rfl)
theorem dJ3_circularClear_35 : decode cJ3_circularClear 35 = .ok (.iconst 0, 1) := dk_3 (dk_at dksJ3_circularClear_1 11 rfl rfl)
theorem dJ3_circularClear_36 : decode cJ3_circularClear 36 = .ok (.istore_n 1, 1) := dk_60 (dk_at dksJ3_circularClear_1 12 rfl rfl)
theorem dJ3_circularClear_37 : decode cJ3_circularClear 37 = .ok (.iload_n 2, 1) := dk_28 (dk_at dksJ3_circularClear_1 13 rfl rfl)
theorem dJ3_circularClear_38 : decode cJ3_circularClear 38 = .ok (.istore_n 3, 1) := dk_62 (dk_at dksJ3_circularClear_1 14 rfl rfl)
theorem dJ3_circularClear_39 : decode cJ3_circularClear 39 = .ok (.goto (-27), 3) := dk_167 255 229 (dk_at dksJ3_circularClear_1 15 rfl rfl)
theorem dJ3_circularClear_42 : decode cJ3_circularClear 42 = .ok (.return_, 1) := dk_177 (dk_at dksJ3_circularClear_1 18 rfl rfl)
/-- java/util/ArrayDeque.circularClear([Ljava/lang/Object;II)V -/
def zb153 (G : zPg) (C : zO) (args : List Value) (Q : zQ) (Y : zY) (σ : zS) : Prop := ∃ (x1 : Option Nat) (x2 : Int32) (x3 : Int32), args = [va_rf x1, .int x2, .int x3] ∧ (zJ (fun (p1 : Int32) (s2 : zS) => ∃ n, zIt (fun _ _ _ => False) (fun rec7 (p4 : Int32) (p5 : Int32) (s6 : zS) => ((p5 ≤ p4) → ((¬ p5 = x3) → rec7 (0 : Int32) x3 s6) ∧ ((p5 = x3) → Q none s6)) ∧ ((¬ p5 ≤ p4) → zsR s6 G.1 4 [0, 1, 2, 3, 4, 5, 6, 7, 8, 9, 10, 11, 12, 13, 14, 15, 16, 17, 18, 19, 20, 21, 22, 23, 24, 25, 26, 27, 28, 29, 30] x1 p4 none (fun s18 => (∀ v20 : Int32, v20 = p4 + (1 : Int32) → rec7 v20 p5 s18)))) n x2 p1 s2) (fun (j3 : Int32 → zS → Prop) => ((x3 < x2) → zln σ 4 x1 (fun v28 => j3 v28 σ)) ∧ ((¬ x3 < x2) → j3 x3 σ)))
set_option maxHeartbeats 4000000 in
theorem wk153 {l : Launch} {g : zG} {d : Nat} {C : zO} (hG : zGk g) (hC : zSound l g d C) {args : List Value} {Q : zQ} {Y : zY} {σ : zS} (hw : zb153 (zpg g) C args Q Y σ) : zMet l g (d + 1) (⟨"java/util/ArrayDeque", "circularClear", "([Ljava/lang/Object;II)V"⟩, Cond.code ⟨"java/util/ArrayDeque", "circularClear", "([Ljava/lang/Object;II)V"⟩ prog_57_method_54_code 4 (Option.none : Option FieldType)) args σ Q Y := by
  obtain ⟨x1, x2, x3, rfl, hw⟩ := hw
  refine zof hG (by decide +kernel) [false, false, false] ⟨(zc_rf _), rfl, rfl, trivial⟩ (Nat.le_of_ble_eq_true rfl) (ls := [some (va_rf x1), some (.int x2), some (.int x3), none]) rfl ?_
  intro X hX hR hTb hd1 hd2 hl hg hnm
  subst hl
  subst hg
  have hd : zDep X d := ⟨hd1, hd2⟩
  refine z_iload_n hX dJ3_circularClear_0 rfl (i := 1) rfl ?_
  refine z_iload_n hX dJ3_circularClear_1 rfl (i := 2) rfl ?_
  refine zJ_w (P := fun (j : Int32 → zS → Prop) => ∀ (p1 : Int32) (s2 : zS), j p1 s2 → zW X s2 11 [some (va_rf x1), some (.int x2), some (.int x3), none] [.int p1]) hw (fun p1 s2 hw => ?_) (fun j3 hj3 hw => ?_)
  · refine z_istore_n hX dJ3_circularClear_11 rfl (i := 3) (Nat.le_of_ble_eq_true rfl) rfl (ls2 := [some (va_rf x1), some (.int x2), some (.int x3), some (.int p1)]) rfl ?_
    obtain ⟨n22, hw⟩ := hw
    refine zIt_w (P := fun (j : Int32 → Int32 → zS → Prop) => ∀ (p4 : Int32) (p5 : Int32) (s6 : zS), j p4 p5 s6 → zW X s6 12 [some (va_rf x1), some (.int p4), some (.int x3), some (.int p5)] []) (fun _ _ _ h => h.elim) (fun rec7 hrec7 p4 p5 s6 hw => ?_) n22 _ _ _ hw
    refine z_iload_n hX dJ3_circularClear_12 rfl (i := 1) rfl ?_
    refine z_iload_n hX dJ3_circularClear_13 rfl (i := 3) rfl ?_
    refine z_icmp_ge hX dJ3_circularClear_14 (tgt := 27) rfl (fun c8 => ?_) (fun c8 => ?_)
    · have hw := hw.1 c8
      refine z_iload_n hX dJ3_circularClear_27 rfl (i := 3) rfl ?_
      refine z_iload_n hX dJ3_circularClear_28 rfl (i := 2) rfl ?_
      refine z_icmp_ne hX dJ3_circularClear_29 (tgt := 35) rfl (fun c9 => ?_) (fun c9 => ?_)
      · have hw := hw.1 c9
        refine z_iconst hX (v := (0 : Int32)) dJ3_circularClear_35 (by decide) ?_
        refine z_istore_n hX dJ3_circularClear_36 rfl (i := 1) (Nat.le_of_ble_eq_true rfl) (zc_rf _) (ls2 := [some (va_rf x1), some (.int (0 : Int32)), some (.int x3), some (.int p5)]) rfl ?_
        refine z_iload_n hX dJ3_circularClear_37 rfl (i := 2) rfl ?_
        refine z_istore_n hX dJ3_circularClear_38 rfl (i := 3) (Nat.le_of_ble_eq_true rfl) rfl (ls2 := [some (va_rf x1), some (.int (0 : Int32)), some (.int x3), some (.int x3)]) rfl ?_
        refine z_goto hX dJ3_circularClear_39 (tgt := 12) rfl ?_
        exact hrec7 _ _ _ hw
      · have hw := hw.2 c9
        refine z_goto hX dJ3_circularClear_32 (tgt := 42) rfl ?_
        exact z_return hX hR dJ3_circularClear_42 hw
    · have hw := hw.2 c8
      refine z_aload_n hX dJ3_circularClear_17 rfl (i := 0) rfl ?_
      refine z_iload_n hX dJ3_circularClear_18 rfl (i := 1) rfl ?_
      refine z_null hX dJ3_circularClear_19 ?_
      obtain ⟨a10, n11, f12, r13, g14, m15, i16, c17, hw⟩ := hw
      refine z_aastM hX 4 dJ3_circularClear_20 rfl rfl (zfa1 ⟨_, rfl, Or.inr q3187⟩ (zfa1 ⟨_, rfl, Or.inr q3188⟩ (zfa1 ⟨_, rfl, Or.inr q3189⟩ (zfa1 ⟨_, rfl, Or.inr q3190⟩ (zfa1 ⟨_, rfl, Or.inr q3191⟩ (zfa1 ⟨_, rfl, Or.inr q3217⟩ (zfa1 ⟨_, rfl, Or.inr q3192⟩ (zfa1 ⟨_, rfl, Or.inr q3193⟩ (zfa1 ⟨_, rfl, Or.inr q3194⟩ (zfa1 ⟨_, rfl, Or.inr q3186⟩ (zfa1 ⟨_, rfl, Or.inr q3201⟩ (zfa1 ⟨_, rfl, Or.inr q3196⟩ (zfa1 ⟨_, rfl, Or.inr q3197⟩ (zfa1 ⟨_, rfl, Or.inr q3198⟩ (zfa1 ⟨_, rfl, Or.inr q3199⟩ (zfa1 ⟨_, rfl, Or.inr q3200⟩ (zfa1 ⟨_, rfl, Or.inr q3202⟩ (zfa1 ⟨_, rfl, Or.inr q3203⟩ (zfa1 ⟨_, rfl, Or.inr q3204⟩ (zfa1 ⟨_, rfl, Or.inr q3205⟩ (zfa1 ⟨_, rfl, Or.inr q3206⟩ (zfa1 ⟨_, rfl, Or.inr q3208⟩ (zfa1 ⟨_, rfl, Or.inr q3209⟩ (zfa1 ⟨_, rfl, Or.inr q3184⟩ (zfa1 ⟨_, rfl, Or.inr q3210⟩ (zfa1 ⟨_, rfl, Or.inr q3211⟩ (zfa1 ⟨_, rfl, Or.inr q3212⟩ (zfa1 ⟨_, rfl, Or.inr q3213⟩ (zfa1 ⟨_, rfl, Or.inr q3215⟩ (zfa1 ⟨_, rfl, Or.inr q3216⟩ (zfa1 ⟨_, rfl, Or.inl rfl⟩ (zfa0)))))))))))))))))))))))))))))))) r13 g14 m15 i16 c17 (z_nm (fun s18 e19 => ?_))
      have hw := hw s18 e19
      obtain ⟨v20, e21⟩ : ∃ y : Int32, y = p4 + (1 : Int32) := ⟨_, rfl⟩
      refine z_iinc hX dJ3_circularClear_21 (i := 1) (v := v20) rfl (by rw [e21]; rfl) (Nat.le_of_ble_eq_true rfl) (zc_rf _) (ls2 := [some (va_rf x1), some (.int v20), some (.int x3), some (.int p5)]) rfl ?_
      have hw := hw v20 e21
      refine z_goto hX dJ3_circularClear_24 (tgt := 12) rfl ?_
      exact hrec7 _ _ _ hw
  · refine z_icmp_gt hX dJ3_circularClear_2 (tgt := 9) rfl (fun c23 => ?_) (fun c23 => ?_)
    · have hw := hw.1 c23
      refine z_aload_n hX dJ3_circularClear_9 rfl (i := 0) rfl ?_
      obtain ⟨a24, n25, r26, m27, hw⟩ := hw
      refine z_alen hX 4 dJ3_circularClear_10 r26 m27 ?_
      revert hw
      generalize nI n25.1 = v28
      intro hw
      exact hj3 _ _ hw
    · have hw := hw.2 c23
      refine z_iload_n hX dJ3_circularClear_5 rfl (i := 2) rfl ?_
      refine z_goto hX dJ3_circularClear_6 (tgt := 11) rfl ?_
      exact hj3 _ _ hw
def RJ4 : String := "java/lang/Math"
abbrev cJ4_min : ByteArray := prog_42_method_69_code
def yJ4_min : MethodName := ⟨RJ4, "min", "(II)I"⟩
def dkwJ4_min_0 : List UInt8 := [26, 27, 163, 0, 7, 26, 167, 0, 4, 27, 172]
abbrev dktJ4_min_0 : List UInt8 := dkwJ4_min_0 ++ []
theorem dksJ4_min_0 : cJ4_min.data.toList.drop 0 = dktJ4_min_0 := by decide +kernel
theorem dJ4_min_0 : decode cJ4_min 0 = .ok (.iload_n 0, 1) := dk_26 (dk_at dksJ4_min_0 0 rfl rfl)
theorem dJ4_min_1 : decode cJ4_min 1 = .ok (.iload_n 1, 1) := dk_27 (dk_at dksJ4_min_0 1 rfl rfl)
theorem dJ4_min_2 : decode cJ4_min 2 = .ok (.if_icmp .gt 7, 3) := dk_163 0 7 (dk_at dksJ4_min_0 2 rfl rfl)
theorem dJ4_min_5 : decode cJ4_min 5 = .ok (.iload_n 0, 1) := dk_26 (dk_at dksJ4_min_0 5 rfl rfl)
theorem dJ4_min_6 : decode cJ4_min 6 = .ok (.goto 4, 3) := dk_167 0 4 (dk_at dksJ4_min_0 6 rfl rfl)
theorem dJ4_min_9 : decode cJ4_min 9 = .ok (.iload_n 1, 1) := dk_27 (dk_at dksJ4_min_0 9 rfl rfl)
theorem dJ4_min_10 : decode cJ4_min 10 = .ok (.ireturn, 1) := dk_172 (dk_at dksJ4_min_0 10 rfl rfl)
/-- java/lang/Math.min(II)I -/
def zb295 (G : zPg) (C : zO) (args : List Value) (Q : zQ) (Y : zY) (σ : zS) : Prop := ∃ (x1 : Int32) (x2 : Int32), args = [.int x1, .int x2] ∧ (zJ (fun (p1 : Int32) (s2 : zS) => Q (some (.int p1)) s2) (fun (j3 : Int32 → zS → Prop) => ((x2 < x1) → j3 x2 σ) ∧ ((¬ x2 < x1) → j3 x1 σ)))
set_option maxHeartbeats 4000000 in
theorem wk295 {l : Launch} {g : zG} {d : Nat} {C : zO} (hG : zGk g) (hC : zSound l g d C) {args : List Value} {Q : zQ} {Y : zY} {σ : zS} (hw : zb295 (zpg g) C args Q Y σ) : zMet l g (d + 1) (⟨"java/lang/Math", "min", "(II)I"⟩, Cond.code ⟨"java/lang/Math", "min", "(II)I"⟩ prog_42_method_69_code 2 (Option.some FieldType.int)) args σ Q Y := by
  obtain ⟨x1, x2, rfl, hw⟩ := hw
  refine zofF hG (by decide +kernel) [false, false] ⟨rfl, rfl, trivial⟩ (Nat.le_of_ble_eq_true rfl) (ls := [some (.int x1), some (.int x2)]) rfl ?_
  intro X hX hR hTb hd1 hd2 hl hg hnm
  subst hl
  subst hg
  have hd : zDep X d := ⟨hd1, hd2⟩
  refine z_iload_n hX dJ4_min_0 rfl (i := 0) rfl ?_
  refine z_iload_n hX dJ4_min_1 rfl (i := 1) rfl ?_
  refine zJ_w (P := fun (j : Int32 → zS → Prop) => ∀ (p1 : Int32) (s2 : zS), j p1 s2 → zW X s2 10 [none, none] [.int p1]) hw (fun p1 s2 hw => ?_) (fun j3 hj3 hw => ?_)
  · exact z_ireturn hX hR dJ4_min_10 rfl hw
  · refine z_icmp_gt hX dJ4_min_2 (tgt := 9) rfl (fun c4 => ?_) (fun c4 => ?_)
    · have hw := hw.1 c4
      refine z_iload_n hX dJ4_min_9 rfl (i := 1) rfl ?_
      refine z_sub (ls' := [none, none]) (zsN (zsN (zs0))) ?_
      exact hj3 _ _ hw
    · have hw := hw.2 c4
      refine z_iload_n hX dJ4_min_5 rfl (i := 0) rfl ?_
      refine z_goto hX dJ4_min_6 (tgt := 10) rfl ?_
      refine z_sub (ls' := [none, none]) (zsN (zsN (zs0))) ?_
      exact hj3 _ _ hw
abbrev cJ4_abs : ByteArray := prog_42_method_61_code
def yJ4_abs : MethodName := ⟨RJ4, "abs", "(J)J"⟩
def dkwJ4_abs_0 : List UInt8 := [30, 9, 148, 156, 0, 8, 30, 117, 167, 0, 4, 30, 173]
abbrev dktJ4_abs_0 : List UInt8 := dkwJ4_abs_0 ++ []
theorem dksJ4_abs_0 : cJ4_abs.data.toList.drop 0 = dktJ4_abs_0 := by decide +kernel
theorem dJ4_abs_0 : decode cJ4_abs 0 = .ok (.lload_n 0, 1) := dk_30 (dk_at dksJ4_abs_0 0 rfl rfl)
theorem dJ4_abs_1 : decode cJ4_abs 1 = .ok (.lconst 0, 1) := dk_9 (dk_at dksJ4_abs_0 1 rfl rfl)
theorem dJ4_abs_2 : decode cJ4_abs 2 = .ok (.lcmp, 1) := dk_148 (dk_at dksJ4_abs_0 2 rfl rfl)
theorem dJ4_abs_3 : decode cJ4_abs 3 = .ok (.ifCond .ge 8, 3) := dk_156 0 8 (dk_at dksJ4_abs_0 3 rfl rfl)
theorem dJ4_abs_6 : decode cJ4_abs 6 = .ok (.lload_n 0, 1) := dk_30 (dk_at dksJ4_abs_0 6 rfl rfl)
theorem dJ4_abs_7 : decode cJ4_abs 7 = .ok (.lneg, 1) := dk_117 (dk_at dksJ4_abs_0 7 rfl rfl)
theorem dJ4_abs_8 : decode cJ4_abs 8 = .ok (.goto 4, 3) := dk_167 0 4 (dk_at dksJ4_abs_0 8 rfl rfl)
theorem dJ4_abs_11 : decode cJ4_abs 11 = .ok (.lload_n 0, 1) := dk_30 (dk_at dksJ4_abs_0 11 rfl rfl)
theorem dJ4_abs_12 : decode cJ4_abs 12 = .ok (.lreturn, 1) := dk_173 (dk_at dksJ4_abs_0 12 rfl rfl)
/-- java/lang/Math.abs(J)J -/
def zb296 (G : zPg) (C : zO) (args : List Value) (Q : zQ) (Y : zY) (σ : zS) : Prop := ∃ (x1 : Int64), args = [.long x1] ∧ (zJ (fun (p1 : Int64) (s2 : zS) => Q (some (.long p1)) s2) (fun (j3 : Int64 → zS → Prop) => ((0 ≤ (lg_cmp x1 (0 : Int64))) → j3 x1 σ) ∧ ((¬ 0 ≤ (lg_cmp x1 (0 : Int64))) → j3 (-x1) σ)))
set_option maxHeartbeats 4000000 in
theorem wk296 {l : Launch} {g : zG} {d : Nat} {C : zO} (hG : zGk g) (hC : zSound l g d C) {args : List Value} {Q : zQ} {Y : zY} {σ : zS} (hw : zb296 (zpg g) C args Q Y σ) : zMet l g (d + 1) (⟨"java/lang/Math", "abs", "(J)J"⟩, Cond.code ⟨"java/lang/Math", "abs", "(J)J"⟩ prog_42_method_61_code 2 (Option.some FieldType.long)) args σ Q Y := by
  obtain ⟨x1, rfl, hw⟩ := hw
  refine zofF hG (by decide +kernel) [true] ⟨rfl, trivial⟩ (Nat.le_of_ble_eq_true rfl) (ls := [some (.long x1), none]) rfl ?_
  intro X hX hR hTb hd1 hd2 hl hg hnm
  subst hl
  subst hg
  have hd : zDep X d := ⟨hd1, hd2⟩
  refine z_lload_n hX dJ4_abs_0 rfl (i := 0) rfl ?_
  refine z_lconst hX (v := (0 : Int64)) dJ4_abs_1 (by decide) ?_
  refine z_lcmp hX dJ4_abs_2 ?_
  refine zJ_w (P := fun (j : Int64 → zS → Prop) => ∀ (p1 : Int64) (s2 : zS), j p1 s2 → zW X s2 12 [none, none] [.long p1]) hw (fun p1 s2 hw => ?_) (fun j3 hj3 hw => ?_)
  · exact z_lreturn hX hR dJ4_abs_12 hw
  · refine z_if_ge hX dJ4_abs_3 (tgt := 11) rfl (fun c4 => ?_) (fun c4 => ?_)
    · have hw := hw.1 c4
      refine z_lload_n hX dJ4_abs_11 rfl (i := 0) rfl ?_
      refine z_sub (ls' := [none, none]) (zsN (zsN (zs0))) ?_
      exact hj3 _ _ hw
    · have hw := hw.2 c4
      refine z_lload_n hX dJ4_abs_6 rfl (i := 0) rfl ?_
      refine z_lneg hX dJ4_abs_7 ?_
      refine z_goto hX dJ4_abs_8 (tgt := 12) rfl ?_
      refine z_sub (ls' := [none, none]) (zsN (zsN (zs0))) ?_
      exact hj3 _ _ hw
abbrev cJ4_max : ByteArray := prog_42_method_65_code
def yJ4_max : MethodName := ⟨RJ4, "max", "(II)I"⟩
def dkwJ4_max_0 : List UInt8 := [26, 27, 161, 0, 7, 26, 167, 0, 4, 27, 172]
abbrev dktJ4_max_0 : List UInt8 := dkwJ4_max_0 ++ []
theorem dksJ4_max_0 : cJ4_max.data.toList.drop 0 = dktJ4_max_0 := by decide +kernel
theorem dJ4_max_0 : decode cJ4_max 0 = .ok (.iload_n 0, 1) := dk_26 (dk_at dksJ4_max_0 0 rfl rfl)
theorem dJ4_max_1 : decode cJ4_max 1 = .ok (.iload_n 1, 1) := dk_27 (dk_at dksJ4_max_0 1 rfl rfl)
theorem dJ4_max_2 : decode cJ4_max 2 = .ok (.if_icmp .lt 7, 3) := dk_161 0 7 (dk_at dksJ4_max_0 2 rfl rfl)
theorem dJ4_max_5 : decode cJ4_max 5 = .ok (.iload_n 0, 1) := dk_26 (dk_at dksJ4_max_0 5 rfl rfl)
theorem dJ4_max_6 : decode cJ4_max 6 = .ok (.goto 4, 3) := dk_167 0 4 (dk_at dksJ4_max_0 6 rfl rfl)
theorem dJ4_max_9 : decode cJ4_max 9 = .ok (.iload_n 1, 1) := dk_27 (dk_at dksJ4_max_0 9 rfl rfl)
theorem dJ4_max_10 : decode cJ4_max 10 = .ok (.ireturn, 1) := dk_172 (dk_at dksJ4_max_0 10 rfl rfl)
/-- java/lang/Math.max(II)I -/
def zb297 (G : zPg) (C : zO) (args : List Value) (Q : zQ) (Y : zY) (σ : zS) : Prop := ∃ (x1 : Int32) (x2 : Int32), args = [.int x1, .int x2] ∧ (zJ (fun (p1 : Int32) (s2 : zS) => Q (some (.int p1)) s2) (fun (j3 : Int32 → zS → Prop) => ((x1 < x2) → j3 x2 σ) ∧ ((¬ x1 < x2) → j3 x1 σ)))
set_option maxHeartbeats 4000000 in
theorem wk297 {l : Launch} {g : zG} {d : Nat} {C : zO} (hG : zGk g) (hC : zSound l g d C) {args : List Value} {Q : zQ} {Y : zY} {σ : zS} (hw : zb297 (zpg g) C args Q Y σ) : zMet l g (d + 1) (⟨"java/lang/Math", "max", "(II)I"⟩, Cond.code ⟨"java/lang/Math", "max", "(II)I"⟩ prog_42_method_65_code 2 (Option.some FieldType.int)) args σ Q Y := by
  obtain ⟨x1, x2, rfl, hw⟩ := hw
  refine zofF hG (by decide +kernel) [false, false] ⟨rfl, rfl, trivial⟩ (Nat.le_of_ble_eq_true rfl) (ls := [some (.int x1), some (.int x2)]) rfl ?_
  intro X hX hR hTb hd1 hd2 hl hg hnm
  subst hl
  subst hg
  have hd : zDep X d := ⟨hd1, hd2⟩
  refine z_iload_n hX dJ4_max_0 rfl (i := 0) rfl ?_
  refine z_iload_n hX dJ4_max_1 rfl (i := 1) rfl ?_
  refine zJ_w (P := fun (j : Int32 → zS → Prop) => ∀ (p1 : Int32) (s2 : zS), j p1 s2 → zW X s2 10 [none, none] [.int p1]) hw (fun p1 s2 hw => ?_) (fun j3 hj3 hw => ?_)
  · exact z_ireturn hX hR dJ4_max_10 rfl hw
  · refine z_icmp_lt hX dJ4_max_2 (tgt := 9) rfl (fun c4 => ?_) (fun c4 => ?_)
    · have hw := hw.1 c4
      refine z_iload_n hX dJ4_max_9 rfl (i := 1) rfl ?_
      refine z_sub (ls' := [none, none]) (zsN (zsN (zs0))) ?_
      exact hj3 _ _ hw
    · have hw := hw.2 c4
      refine z_iload_n hX dJ4_max_5 rfl (i := 0) rfl ?_
      refine z_goto hX dJ4_max_6 (tgt := 10) rfl ?_
      refine z_sub (ls' := [none, none]) (zsN (zsN (zs0))) ?_
      exact hj3 _ _ hw
abbrev cJ4_abs_2 : ByteArray := prog_42_method_59_code
def yJ4_abs_2 : MethodName := ⟨RJ4, "abs", "(I)I"⟩
def dkwJ4_abs_2_0 : List UInt8 := [26, 156, 0, 8, 26, 116, 167, 0, 4, 26, 172]
abbrev dktJ4_abs_2_0 : List UInt8 := dkwJ4_abs_2_0 ++ []
theorem dksJ4_abs_2_0 : cJ4_abs_2.data.toList.drop 0 = dktJ4_abs_2_0 := by decide +kernel
theorem dJ4_abs_2_0 : decode cJ4_abs_2 0 = .ok (.iload_n 0, 1) := dk_26 (dk_at dksJ4_abs_2_0 0 rfl rfl)
theorem dJ4_abs_2_1 : decode cJ4_abs_2 1 = .ok (.ifCond .ge 8, 3) := dk_156 0 8 (dk_at dksJ4_abs_2_0 1 rfl rfl)
theorem dJ4_abs_2_4 : decode cJ4_abs_2 4 = .ok (.iload_n 0, 1) := dk_26 (dk_at dksJ4_abs_2_0 4 rfl rfl)
theorem dJ4_abs_2_5 : decode cJ4_abs_2 5 = .ok (.ineg, 1) := dk_116 (dk_at dksJ4_abs_2_0 5 rfl rfl)
theorem dJ4_abs_2_6 : decode cJ4_abs_2 6 = .ok (.goto 4, 3) := dk_167 0 4 (dk_at dksJ4_abs_2_0 6 rfl rfl)
theorem dJ4_abs_2_9 : decode cJ4_abs_2 9 = .ok (.iload_n 0, 1) := dk_26 (dk_at dksJ4_abs_2_0 9 rfl rfl)
theorem dJ4_abs_2_10 : decode cJ4_abs_2 10 = .ok (.ireturn, 1) := dk_172 (dk_at dksJ4_abs_2_0 10 rfl rfl)
/-- java/lang/Math.abs(I)I -/
def zb298 (G : zPg) (C : zO) (args : List Value) (Q : zQ) (Y : zY) (σ : zS) : Prop := ∃ (x1 : Int32), args = [.int x1] ∧ (zJ (fun (p1 : Int32) (s2 : zS) => Q (some (.int p1)) s2) (fun (j3 : Int32 → zS → Prop) => ((0 ≤ x1) → j3 x1 σ) ∧ ((¬ 0 ≤ x1) → j3 (-x1) σ)))
set_option maxHeartbeats 4000000 in
theorem wk298 {l : Launch} {g : zG} {d : Nat} {C : zO} (hG : zGk g) (hC : zSound l g d C) {args : List Value} {Q : zQ} {Y : zY} {σ : zS} (hw : zb298 (zpg g) C args Q Y σ) : zMet l g (d + 1) (⟨"java/lang/Math", "abs", "(I)I"⟩, Cond.code ⟨"java/lang/Math", "abs", "(I)I"⟩ prog_42_method_59_code 1 (Option.some FieldType.int)) args σ Q Y := by
  obtain ⟨x1, rfl, hw⟩ := hw
  refine zofF hG (by decide +kernel) [false] ⟨rfl, trivial⟩ (Nat.le_of_ble_eq_true rfl) (ls := [some (.int x1)]) rfl ?_
  intro X hX hR hTb hd1 hd2 hl hg hnm
  subst hl
  subst hg
  have hd : zDep X d := ⟨hd1, hd2⟩
  refine z_iload_n hX dJ4_abs_2_0 rfl (i := 0) rfl ?_
  refine zJ_w (P := fun (j : Int32 → zS → Prop) => ∀ (p1 : Int32) (s2 : zS), j p1 s2 → zW X s2 10 [none] [.int p1]) hw (fun p1 s2 hw => ?_) (fun j3 hj3 hw => ?_)
  · exact z_ireturn hX hR dJ4_abs_2_10 rfl hw
  · refine z_if_ge hX dJ4_abs_2_1 (tgt := 9) rfl (fun c4 => ?_) (fun c4 => ?_)
    · have hw := hw.1 c4
      refine z_iload_n hX dJ4_abs_2_9 rfl (i := 0) rfl ?_
      refine z_sub (ls' := [none]) (zsN (zs0)) ?_
      exact hj3 _ _ hw
    · have hw := hw.2 c4
      refine z_iload_n hX dJ4_abs_2_4 rfl (i := 0) rfl ?_
      refine z_ineg hX dJ4_abs_2_5 ?_
      refine z_goto hX dJ4_abs_2_6 (tgt := 10) rfl ?_
      refine z_sub (ls' := [none]) (zsN (zs0)) ?_
      exact hj3 _ _ hw
abbrev cJ4_min_2 : ByteArray := prog_42_method_70_code
def yJ4_min_2 : MethodName := ⟨RJ4, "min", "(JJ)J"⟩
def dkwJ4_min_2_0 : List UInt8 := [30, 32, 148, 157, 0, 7, 30, 167, 0, 4, 32, 173]
abbrev dktJ4_min_2_0 : List UInt8 := dkwJ4_min_2_0 ++ []
theorem dksJ4_min_2_0 : cJ4_min_2.data.toList.drop 0 = dktJ4_min_2_0 := by decide +kernel
theorem dJ4_min_2_0 : decode cJ4_min_2 0 = .ok (.lload_n 0, 1) := dk_30 (dk_at dksJ4_min_2_0 0 rfl rfl)
theorem dJ4_min_2_1 : decode cJ4_min_2 1 = .ok (.lload_n 2, 1) := dk_32 (dk_at dksJ4_min_2_0 1 rfl rfl)
theorem dJ4_min_2_2 : decode cJ4_min_2 2 = .ok (.lcmp, 1) := dk_148 (dk_at dksJ4_min_2_0 2 rfl rfl)
theorem dJ4_min_2_3 : decode cJ4_min_2 3 = .ok (.ifCond .gt 7, 3) := dk_157 0 7 (dk_at dksJ4_min_2_0 3 rfl rfl)
theorem dJ4_min_2_6 : decode cJ4_min_2 6 = .ok (.lload_n 0, 1) := dk_30 (dk_at dksJ4_min_2_0 6 rfl rfl)
theorem dJ4_min_2_7 : decode cJ4_min_2 7 = .ok (.goto 4, 3) := dk_167 0 4 (dk_at dksJ4_min_2_0 7 rfl rfl)
theorem dJ4_min_2_10 : decode cJ4_min_2 10 = .ok (.lload_n 2, 1) := dk_32 (dk_at dksJ4_min_2_0 10 rfl rfl)
theorem dJ4_min_2_11 : decode cJ4_min_2 11 = .ok (.lreturn, 1) := dk_173 (dk_at dksJ4_min_2_0 11 rfl rfl)
/-- java/lang/Math.min(JJ)J -/
def zb299 (G : zPg) (C : zO) (args : List Value) (Q : zQ) (Y : zY) (σ : zS) : Prop := ∃ (x1 : Int64) (x2 : Int64), args = [.long x1, .long x2] ∧ (zJ (fun (p1 : Int64) (s2 : zS) => Q (some (.long p1)) s2) (fun (j3 : Int64 → zS → Prop) => ((0 < (lg_cmp x1 x2)) → j3 x2 σ) ∧ ((¬ 0 < (lg_cmp x1 x2)) → j3 x1 σ)))
set_option maxHeartbeats 4000000 in
theorem wk299 {l : Launch} {g : zG} {d : Nat} {C : zO} (hG : zGk g) (hC : zSound l g d C) {args : List Value} {Q : zQ} {Y : zY} {σ : zS} (hw : zb299 (zpg g) C args Q Y σ) : zMet l g (d + 1) (⟨"java/lang/Math", "min", "(JJ)J"⟩, Cond.code ⟨"java/lang/Math", "min", "(JJ)J"⟩ prog_42_method_70_code 4 (Option.some FieldType.long)) args σ Q Y := by
  obtain ⟨x1, x2, rfl, hw⟩ := hw
  refine zofF hG (by decide +kernel) [true, true] ⟨rfl, rfl, trivial⟩ (Nat.le_of_ble_eq_true rfl) (ls := [some (.long x1), none, some (.long x2), none]) rfl ?_
  intro X hX hR hTb hd1 hd2 hl hg hnm
  subst hl
  subst hg
  have hd : zDep X d := ⟨hd1, hd2⟩
  refine z_lload_n hX dJ4_min_2_0 rfl (i := 0) rfl ?_
  refine z_lload_n hX dJ4_min_2_1 rfl (i := 2) rfl ?_
  refine z_lcmp hX dJ4_min_2_2 ?_
  refine zJ_w (P := fun (j : Int64 → zS → Prop) => ∀ (p1 : Int64) (s2 : zS), j p1 s2 → zW X s2 11 [none, none, none, none] [.long p1]) hw (fun p1 s2 hw => ?_) (fun j3 hj3 hw => ?_)
  · exact z_lreturn hX hR dJ4_min_2_11 hw
  · refine z_if_gt hX dJ4_min_2_3 (tgt := 10) rfl (fun c4 => ?_) (fun c4 => ?_)
    · have hw := hw.1 c4
      refine z_lload_n hX dJ4_min_2_10 rfl (i := 2) rfl ?_
      refine z_sub (ls' := [none, none, none, none]) (zsN (zsN (zsN (zsN (zs0))))) ?_
      exact hj3 _ _ hw
    · have hw := hw.2 c4
      refine z_lload_n hX dJ4_min_2_6 rfl (i := 0) rfl ?_
      refine z_goto hX dJ4_min_2_7 (tgt := 11) rfl ?_
      refine z_sub (ls' := [none, none, none, none]) (zsN (zsN (zsN (zsN (zs0))))) ?_
      exact hj3 _ _ hw
abbrev cJ5_init : ByteArray := prog_51_method_1_code
def yJ5_init : MethodName := ⟨RJ5, "<init>", "()V"⟩
def dkwJ5_init_1 : List UInt8 := [182, 0, 27, 87, 177]
abbrev dktJ5_init_1 : List UInt8 := dkwJ5_init_1 ++ []
def dkwJ5_init_0 : List UInt8 := [42, 183, 0, 1, 42, 42, 181, 0, 7, 42, 178, 0, 13, 181, 0, 17, 42, 178, 0, 20, 181, 0, 24, 42]
abbrev dktJ5_init_0 : List UInt8 := dkwJ5_init_0 ++ dktJ5_init_1
theorem dksJ5_init_0 : cJ5_init.data.toList.drop 0 = dktJ5_init_0 := by decide +kernel
theorem dksJ5_init_1 : cJ5_init.data.toList.drop 24 = dktJ5_init_1 := dk_seg dksJ5_init_0 24 rfl rfl
theorem dJ5_init_0 : decode cJ5_init 0 = .ok (.aload_n 0, 1) := dk_42 (dk_at dksJ5_init_0 0 rfl rfl)
theorem dJ5_init_1 : decode cJ5_init 1 = .ok (.invokespecial 1, 3) := dk_183 0 1 (dk_at dksJ5_init_0 1 rfl rfl)
theorem dJ5_init_4 : decode cJ5_init 4 = .ok (.aload_n 0, 1) := dk_42 (dk_at dksJ5_init_0 4 rfl rfl)
theorem dJ5_init_5 : decode cJ5_init 5 = .ok (.aload_n 0, 1) := dk_42 (dk_at dksJ5_init_0 5 rfl rfl)
theorem dJ5_init_6 : decode cJ5_init 6 = .ok (.putfield 7, 3) := dk_181 0 7 (dk_at dksJ5_init_0 6 rfl rfl)
theorem dJ5_init_9 : decode cJ5_init 9 = .ok (.aload_n 0, 1) := dk_42 (dk_at dksJ5_init_0 9 rfl rfl)
theorem dJ5_init_10 : decode cJ5_init 10 = .ok (.getstatic 13, 3) := dk_178 0 13 (dk_at dksJ5_init_0 10 rfl rfl)
theorem dJ5_init_13 : decode cJ5_init 13 = .ok (.putfield 17, 3) := dk_181 0 17 (dk_at dksJ5_init_0 13 rfl rfl)
theorem dJ5_init_16 : decode cJ5_init 16 = .ok (.aload_n 0, 1) := dk_42 (dk_at dksJ5_init_0 16 rfl rfl)
theorem dJ5_init_17 : decode cJ5_init 17 = .ok (.getstatic 20, 3) := dk_178 0 20 (dk_at dksJ5_init_0 17 rfl rfl)
theorem dJ5_init_20 : decode cJ5_init 20 = .ok (.putfield 24, 3) := dk_181 0 24 (dk_at dksJ5_init_0 20 rfl rfl)
theorem dJ5_init_23 : decode cJ5_init 23 = .ok (.aload_n 0, 1) := dk_42 (dk_at dksJ5_init_0 23 rfl rfl)
theorem dJ5_init_24 : decode cJ5_init 24 = .ok (.invokevirtual 27, 3) := dk_182 0 27 (dk_at dksJ5_init_1 0 rfl rfl)
theorem dJ5_init_27 : decode cJ5_init 27 = .ok (.pop, 1) := dk_87 (dk_at dksJ5_init_1 3 rfl rfl)
theorem dJ5_init_28 : decode cJ5_init 28 = .ok (.return_, 1) := dk_177 (dk_at dksJ5_init_1 4 rfl rfl)
/-- java/lang/Throwable.<init>()V -/
def zb300 (G : zPg) (C : zO) (args : List Value) (Q : zQ) (Y : zY) (σ : zS) : Prop := ∃ (a0 : Nat), args = [.ref a0] ∧ ((∃ a4, (some a0) = some a4 ∧ zputM σ G.1 (some a0) [11, 13, 15] 0 (va_rf (some a0)) (fun s6 => zputM s6 G.1 (some a0) [11, 13, 15] 1 (va_rf (zopt (G.2 60))) (fun s16 => zputM s16 G.1 (some a0) [11, 13, 15] 2 (va_rf (zopt (G.2 61))) (fun s26 => False)))))
set_option maxHeartbeats 4000000 in
theorem wk300 {l : Launch} {g : zG} {d : Nat} {C : zO} (hG : zGk g) (hC : zSound l g d C) {args : List Value} {Q : zQ} {Y : zY} {σ : zS} (hw : zb300 (zpg g) C args Q Y σ) : zMet l g (d + 1) (⟨"java/lang/Throwable", "<init>", "()V"⟩, Cond.code ⟨"java/lang/Throwable", "<init>", "()V"⟩ prog_51_method_1_code 1 (Option.none : Option FieldType)) args σ Q Y := by
  obtain ⟨a0, rfl, hw⟩ := hw
  refine zof hG (by decide +kernel) [false] ⟨rfl, trivial⟩ (Nat.le_of_ble_eq_true rfl) (ls := [some (va_rf (some a0))]) rfl ?_
  intro X hX hR hTb hd1 hd2 hl hg hnm
  subst hl
  subst hg
  have hd : zDep X d := ⟨hd1, hd2⟩
  refine z_aload_n hX dJ5_init_0 rfl (i := 0) rfl ?_
  obtain ⟨a4, r5, hw⟩ := hw
  refine z_oinit hX hd dJ5_init_1 q888 q191 q192 r5 rfl (zcs8 (Nat.le_of_ble_eq_true rfl)) ?_
  refine z_aload_n hX dJ5_init_4 rfl (i := 0) rfl ?_
  refine z_aload_n hX dJ5_init_5 rfl (i := 0) rfl ?_
  obtain ⟨a8, c14, f9, r10, h15, g11, m12, l13, hw⟩ := hw
  refine z_putM hX (tf := (.object "java/lang/Throwable")) (cs := [11, 13, 15]) (k := 0) (t := ("java/lang/Throwable", "cause", "Ljava/lang/Throwable;", false)) dJ5_init_6 (zfa1 ⟨_, _, _, _, zc11, (Nat.le_of_ble_eq_true rfl), rfl⟩ (zfa1 ⟨_, _, _, _, zc13, (Nat.le_of_ble_eq_true rfl), rfl⟩ (zfa1 ⟨_, _, _, _, zc15, (Nat.le_of_ble_eq_true rfl), rfl⟩ (zfa0)))) (zlk hX q918) rfl (by decide +kernel) (zn_o _ _) (zf_o _ _) r10 h15 g11 m12 l13 (z_nm (fun s6 e7 => ?_))
  have hw := hw s6 e7
  refine z_aload_n hX dJ5_init_9 rfl (i := 0) rfl ?_
  refine z_gets hX dJ5_init_10 (List.mem_of_getElem? (i := 8) rfl) q889 rfl ?_
  show zW _ _ _ _ (va_rf (zopt (X.g.2.2.2 60)) :: _)
  obtain ⟨a18, c24, f19, r20, h25, g21, m22, l23, hw⟩ := hw
  refine z_putM hX (tf := (.array (.object "java/lang/StackTraceElement"))) (cs := [11, 13, 15]) (k := 1) (t := ("java/lang/Throwable", "stackTrace", "[Ljava/lang/StackTraceElement;", false)) dJ5_init_13 (zfa1 ⟨_, _, _, _, zc11, (Nat.le_of_ble_eq_true rfl), rfl⟩ (zfa1 ⟨_, _, _, _, zc13, (Nat.le_of_ble_eq_true rfl), rfl⟩ (zfa1 ⟨_, _, _, _, zc15, (Nat.le_of_ble_eq_true rfl), rfl⟩ (zfa0)))) (zlk hX q919) rfl (by decide +kernel) (zn_a _ _) (zf_a _ _) r20 h25 g21 m22 l23 (z_nm (fun s16 e17 => ?_))
  have hw := hw s16 e17
  refine z_aload_n hX dJ5_init_16 rfl (i := 0) rfl ?_
  refine z_gets hX dJ5_init_17 (List.mem_of_getElem? (i := 9) rfl) q891 rfl ?_
  show zW _ _ _ _ (va_rf (zopt (X.g.2.2.2 61)) :: _)
  obtain ⟨a28, c34, f29, r30, h35, g31, m32, l33, hw⟩ := hw
  refine z_putM hX (tf := (.object "java/util/List")) (cs := [11, 13, 15]) (k := 2) (t := ("java/lang/Throwable", "suppressedExceptions", "Ljava/util/List;", false)) dJ5_init_20 (zfa1 ⟨_, _, _, _, zc11, (Nat.le_of_ble_eq_true rfl), rfl⟩ (zfa1 ⟨_, _, _, _, zc13, (Nat.le_of_ble_eq_true rfl), rfl⟩ (zfa1 ⟨_, _, _, _, zc15, (Nat.le_of_ble_eq_true rfl), rfl⟩ (zfa0)))) (zlk hX q920) rfl (by decide +kernel) (zn_o _ _) (zf_o _ _) r30 h35 g31 m32 l33 (z_nm (fun s26 e27 => ?_))
  have hw := hw s26 e27
  refine z_aload_n hX dJ5_init_23 rfl (i := 0) rfl ?_
  exact hw.elim
abbrev cJ5_init_2 : ByteArray := prog_51_method_2_code
def yJ5_init_2 : MethodName := ⟨RJ5, "<init>", "(Ljava/lang/String;)V"⟩
def dkwJ5_init_2_1 : List UInt8 := [182, 0, 27, 87, 42, 43, 181, 0, 31, 177]
abbrev dktJ5_init_2_1 : List UInt8 := dkwJ5_init_2_1 ++ []
def dkwJ5_init_2_0 : List UInt8 := [42, 183, 0, 1, 42, 42, 181, 0, 7, 42, 178, 0, 13, 181, 0, 17, 42, 178, 0, 20, 181, 0, 24, 42]
abbrev dktJ5_init_2_0 : List UInt8 := dkwJ5_init_2_0 ++ dktJ5_init_2_1
theorem dksJ5_init_2_0 : cJ5_init_2.data.toList.drop 0 = dktJ5_init_2_0 := by decide +kernel
theorem dksJ5_init_2_1 : cJ5_init_2.data.toList.drop 24 = dktJ5_init_2_1 := dk_seg dksJ5_init_2_0 24 rfl rfl
theorem dJ5_init_2_0 : decode cJ5_init_2 0 = .ok (.aload_n 0, 1) := dk_42 (dk_at dksJ5_init_2_0 0 rfl rfl)
theorem dJ5_init_2_1 : decode cJ5_init_2 1 = .ok (.invokespecial 1, 3) := dk_183 0 1 (dk_at dksJ5_init_2_0 1 rfl rfl)
theorem dJ5_init_2_4 : decode cJ5_init_2 4 = .ok (.aload_n 0, 1) := dk_42 (dk_at dksJ5_init_2_0 4 rfl rfl)
theorem dJ5_init_2_5 : decode cJ5_init_2 5 = .ok (.aload_n 0, 1) := dk_42 (dk_at dksJ5_init_2_0 5 rfl rfl)
theorem dJ5_init_2_6 : decode cJ5_init_2 6 = .ok (.putfield 7, 3) := dk_181 0 7 (dk_at dksJ5_init_2_0 6 rfl rfl)
theorem dJ5_init_2_9 : decode cJ5_init_2 9 = .ok (.aload_n 0, 1) := dk_42 (dk_at dksJ5_init_2_0 9 rfl rfl)
theorem dJ5_init_2_10 : decode cJ5_init_2 10 = .ok (.getstatic 13, 3) := dk_178 0 13 (dk_at dksJ5_init_2_0 10 rfl rfl)
theorem dJ5_init_2_13 : decode cJ5_init_2 13 = .ok (.putfield 17, 3) := dk_181 0 17 (dk_at dksJ5_init_2_0 13 rfl rfl)
theorem dJ5_init_2_16 : decode cJ5_init_2 16 = .ok (.aload_n 0, 1) := dk_42 (dk_at dksJ5_init_2_0 16 rfl rfl)
theorem dJ5_init_2_17 : decode cJ5_init_2 17 = .ok (.getstatic 20, 3) := dk_178 0 20 (dk_at dksJ5_init_2_0 17 rfl rfl)
theorem dJ5_init_2_20 : decode cJ5_init_2 20 = .ok (.putfield 24, 3) := dk_181 0 24 (dk_at dksJ5_init_2_0 20 rfl rfl)
theorem dJ5_init_2_23 : decode cJ5_init_2 23 = .ok (.aload_n 0, 1) := dk_42 (dk_at dksJ5_init_2_0 23 rfl rfl)
theorem dJ5_init_2_24 : decode cJ5_init_2 24 = .ok (.invokevirtual 27, 3) := dk_182 0 27 (dk_at dksJ5_init_2_1 0 rfl rfl)
theorem dJ5_init_2_27 : decode cJ5_init_2 27 = .ok (.pop, 1) := dk_87 (dk_at dksJ5_init_2_1 3 rfl rfl)
theorem dJ5_init_2_28 : decode cJ5_init_2 28 = .ok (.aload_n 0, 1) := dk_42 (dk_at dksJ5_init_2_1 4 rfl rfl)
theorem dJ5_init_2_29 : decode cJ5_init_2 29 = .ok (.aload_n 1, 1) := dk_43 (dk_at dksJ5_init_2_1 5 rfl rfl)
theorem dJ5_init_2_30 : decode cJ5_init_2 30 = .ok (.putfield 31, 3) := dk_181 0 31 (dk_at dksJ5_init_2_1 6 rfl rfl)
theorem dJ5_init_2_33 : decode cJ5_init_2 33 = .ok (.return_, 1) := dk_177 (dk_at dksJ5_init_2_1 9 rfl rfl)
/-- java/lang/Throwable.<init>(Ljava/lang/String;)V -/
def zb301 (G : zPg) (C : zO) (args : List Value) (Q : zQ) (Y : zY) (σ : zS) : Prop := ∃ (a0 : Nat) (x1 : Option Nat), args = [.ref a0, va_rf x1] ∧ ((∃ a4, (some a0) = some a4 ∧ zputM σ G.1 (some a0) [11, 13, 15] 0 (va_rf (some a0)) (fun s6 => zputM s6 G.1 (some a0) [11, 13, 15] 1 (va_rf (zopt (G.2 60))) (fun s16 => zputM s16 G.1 (some a0) [11, 13, 15] 2 (va_rf (zopt (G.2 61))) (fun s26 => False)))))
set_option maxHeartbeats 4000000 in
theorem wk301 {l : Launch} {g : zG} {d : Nat} {C : zO} (hG : zGk g) (hC : zSound l g d C) {args : List Value} {Q : zQ} {Y : zY} {σ : zS} (hw : zb301 (zpg g) C args Q Y σ) : zMet l g (d + 1) (⟨"java/lang/Throwable", "<init>", "(Ljava/lang/String;)V"⟩, Cond.code ⟨"java/lang/Throwable", "<init>", "(Ljava/lang/String;)V"⟩ prog_51_method_2_code 2 (Option.none : Option FieldType)) args σ Q Y := by
  obtain ⟨a0, x1, rfl, hw⟩ := hw
  refine zof hG (by decide +kernel) [false, false] ⟨rfl, (zc_rf _), trivial⟩ (Nat.le_of_ble_eq_true rfl) (ls := [some (va_rf (some a0)), some (va_rf x1)]) rfl ?_
  intro X hX hR hTb hd1 hd2 hl hg hnm
  subst hl
  subst hg
  have hd : zDep X d := ⟨hd1, hd2⟩
  refine z_aload_n hX dJ5_init_2_0 rfl (i := 0) rfl ?_
  obtain ⟨a4, r5, hw⟩ := hw
  refine z_oinit hX hd dJ5_init_2_1 q888 q191 q192 r5 rfl (zcs8 (Nat.le_of_ble_eq_true rfl)) ?_
  refine z_aload_n hX dJ5_init_2_4 rfl (i := 0) rfl ?_
  refine z_aload_n hX dJ5_init_2_5 rfl (i := 0) rfl ?_
  obtain ⟨a8, c14, f9, r10, h15, g11, m12, l13, hw⟩ := hw
  refine z_putM hX (tf := (.object "java/lang/Throwable")) (cs := [11, 13, 15]) (k := 0) (t := ("java/lang/Throwable", "cause", "Ljava/lang/Throwable;", false)) dJ5_init_2_6 (zfa1 ⟨_, _, _, _, zc11, (Nat.le_of_ble_eq_true rfl), rfl⟩ (zfa1 ⟨_, _, _, _, zc13, (Nat.le_of_ble_eq_true rfl), rfl⟩ (zfa1 ⟨_, _, _, _, zc15, (Nat.le_of_ble_eq_true rfl), rfl⟩ (zfa0)))) (zlk hX q918) rfl (by decide +kernel) (zn_o _ _) (zf_o _ _) r10 h15 g11 m12 l13 (z_nm (fun s6 e7 => ?_))
  have hw := hw s6 e7
  refine z_aload_n hX dJ5_init_2_9 rfl (i := 0) rfl ?_
  refine z_gets hX dJ5_init_2_10 (List.mem_of_getElem? (i := 8) rfl) q889 rfl ?_
  show zW _ _ _ _ (va_rf (zopt (X.g.2.2.2 60)) :: _)
  obtain ⟨a18, c24, f19, r20, h25, g21, m22, l23, hw⟩ := hw
  refine z_putM hX (tf := (.array (.object "java/lang/StackTraceElement"))) (cs := [11, 13, 15]) (k := 1) (t := ("java/lang/Throwable", "stackTrace", "[Ljava/lang/StackTraceElement;", false)) dJ5_init_2_13 (zfa1 ⟨_, _, _, _, zc11, (Nat.le_of_ble_eq_true rfl), rfl⟩ (zfa1 ⟨_, _, _, _, zc13, (Nat.le_of_ble_eq_true rfl), rfl⟩ (zfa1 ⟨_, _, _, _, zc15, (Nat.le_of_ble_eq_true rfl), rfl⟩ (zfa0)))) (zlk hX q919) rfl (by decide +kernel) (zn_a _ _) (zf_a _ _) r20 h25 g21 m22 l23 (z_nm (fun s16 e17 => ?_))
  have hw := hw s16 e17
  refine z_aload_n hX dJ5_init_2_16 rfl (i := 0) rfl ?_
  refine z_gets hX dJ5_init_2_17 (List.mem_of_getElem? (i := 9) rfl) q891 rfl ?_
  show zW _ _ _ _ (va_rf (zopt (X.g.2.2.2 61)) :: _)
  obtain ⟨a28, c34, f29, r30, h35, g31, m32, l33, hw⟩ := hw
  refine z_putM hX (tf := (.object "java/util/List")) (cs := [11, 13, 15]) (k := 2) (t := ("java/lang/Throwable", "suppressedExceptions", "Ljava/util/List;", false)) dJ5_init_2_20 (zfa1 ⟨_, _, _, _, zc11, (Nat.le_of_ble_eq_true rfl), rfl⟩ (zfa1 ⟨_, _, _, _, zc13, (Nat.le_of_ble_eq_true rfl), rfl⟩ (zfa1 ⟨_, _, _, _, zc15, (Nat.le_of_ble_eq_true rfl), rfl⟩ (zfa0)))) (zlk hX q920) rfl (by decide +kernel) (zn_o _ _) (zf_o _ _) r30 h35 g31 m32 l33 (z_nm (fun s26 e27 => ?_))
  have hw := hw s26 e27
  refine z_aload_n hX dJ5_init_2_23 rfl (i := 0) rfl ?_
  exact hw.elim
abbrev cJ5_init_3 : ByteArray := prog_51_method_5_code
def yJ5_init_3 : MethodName := ⟨RJ5, "<init>", "(Ljava/lang/String;Ljava/lang/Throwable;ZZ)V"⟩
def dkwJ5_init_3_2 : List UInt8 := [44, 181, 0, 7, 29, 154, 0, 8, 42, 1, 181, 0, 24, 177]
abbrev dktJ5_init_3_2 : List UInt8 := dkwJ5_init_3_2 ++ []
def dkwJ5_init_3_1 : List UInt8 := [21, 4, 153, 0, 11, 42, 182, 0, 27, 87, 167, 0, 8, 42, 1, 181, 0, 17, 42, 43, 181, 0, 31, 42]
abbrev dktJ5_init_3_1 : List UInt8 := dkwJ5_init_3_1 ++ dktJ5_init_3_2
def dkwJ5_init_3_0 : List UInt8 := [42, 183, 0, 1, 42, 42, 181, 0, 7, 42, 178, 0, 13, 181, 0, 17, 42, 178, 0, 20, 181, 0, 24]
abbrev dktJ5_init_3_0 : List UInt8 := dkwJ5_init_3_0 ++ dktJ5_init_3_1
theorem dksJ5_init_3_0 : cJ5_init_3.data.toList.drop 0 = dktJ5_init_3_0 := by decide +kernel
theorem dksJ5_init_3_1 : cJ5_init_3.data.toList.drop 23 = dktJ5_init_3_1 := dk_seg dksJ5_init_3_0 23 rfl rfl
theorem dksJ5_init_3_2 : cJ5_init_3.data.toList.drop 47 = dktJ5_init_3_2 := dk_seg dksJ5_init_3_1 24 rfl rfl
theorem dJ5_init_3_0 : decode cJ5_init_3 0 = .ok (.aload_n 0, 1) := dk_42 (dk_at dksJ5_init_3_0 0 rfl rfl)
theorem dJ5_init_3_1 : decode cJ5_init_3 1 = .ok (.invokespecial 1, 3) := dk_183 0 1 (dk_at dksJ5_init_3_0 1 rfl rfl)
theorem dJ5_init_3_4 : decode cJ5_init_3 4 = .ok (.aload_n 0, 1) := dk_42 (dk_at dksJ5_init_3_0 4 rfl rfl)
theorem dJ5_init_3_5 : decode cJ5_init_3 5 = .ok (.aload_n 0, 1) := dk_42 (dk_at dksJ5_init_3_0 5 rfl rfl)
theorem dJ5_init_3_6 : decode cJ5_init_3 6 = .ok (.putfield 7, 3) := dk_181 0 7 (dk_at dksJ5_init_3_0 6 rfl rfl)
theorem dJ5_init_3_9 : decode cJ5_init_3 9 = .ok (.aload_n 0, 1) := dk_42 (dk_at dksJ5_init_3_0 9 rfl rfl)
theorem dJ5_init_3_10 : decode cJ5_init_3 10 = .ok (.getstatic 13, 3) := dk_178 0 13 (dk_at dksJ5_init_3_0 10 rfl rfl)
theorem dJ5_init_3_13 : decode cJ5_init_3 13 = .ok (.putfield 17, 3) := dk_181 0 17 (dk_at dksJ5_init_3_0 13 rfl rfl)
theorem dJ5_init_3_16 : decode cJ5_init_3 16 = .ok (.aload_n 0, 1) := dk_42 (dk_at dksJ5_init_3_0 16 rfl rfl)
theorem dJ5_init_3_17 : decode cJ5_init_3 17 = .ok (.getstatic 20, 3) := dk_178 0 20 (dk_at dksJ5_init_3_0 17 rfl rfl)
theorem dJ5_init_3_20 : decode cJ5_init_3 20 = .ok (.putfield 24, 3) := dk_181 0 24 (dk_at dksJ5_init_3_0 20 rfl rfl)
theorem dJ5_init_3_23 : decode cJ5_init_3 23 = .ok (.iload 4, 2) := dk_21 4 (dk_at dksJ5_init_3_1 0 rfl rfl)
theorem dJ5_init_3_25 : decode cJ5_init_3 25 = .ok (.ifCond .eq 11, 3) := dk_153 0 11 (dk_at dksJ5_init_3_1 2 rfl rfl)
theorem dJ5_init_3_28 : decode cJ5_init_3 28 = .ok (.aload_n 0, 1) := dk_42 (dk_at dksJ5_init_3_1 5 rfl rfl)
theorem dJ5_init_3_29 : decode cJ5_init_3 29 = .ok (.invokevirtual 27, 3) := dk_182 0 27 (dk_at dksJ5_init_3_1 6 rfl rfl)
theorem dJ5_init_3_32 : decode cJ5_init_3 32 = .ok (.pop, 1) := dk_87 (dk_at dksJ5_init_3_1 9 rfl rfl)
theorem dJ5_init_3_33 : decode cJ5_init_3 33 = .ok (.goto 8, 3) := dk_167 0 8 (dk_at dksJ5_init_3_1 10 rfl rfl)
theorem dJ5_init_3_36 : decode cJ5_init_3 36 = .ok (.aload_n 0, 1) := dk_42 (dk_at dksJ5_init_3_1 13 rfl rfl)
theorem dJ5_init_3_37 : decode cJ5_init_3 37 = .ok (.aconst_null, 1) := dk_1 (dk_at dksJ5_init_3_1 14 rfl rfl)
theorem dJ5_init_3_38 : decode cJ5_init_3 38 = .ok (.putfield 17, 3) := dk_181 0 17 (dk_at dksJ5_init_3_1 15 rfl rfl)
theorem dJ5_init_3_41 : decode cJ5_init_3 41 = .ok (.aload_n 0, 1) := dk_42 (dk_at dksJ5_init_3_1 18 rfl rfl)
theorem dJ5_init_3_42 : decode cJ5_init_3 42 = .ok (.aload_n 1, 1) := dk_43 (dk_at dksJ5_init_3_1 19 rfl rfl)
theorem dJ5_init_3_43 : decode cJ5_init_3 43 = .ok (.putfield 31, 3) := dk_181 0 31 (dk_at dksJ5_init_3_1 20 rfl rfl)
theorem dJ5_init_3_46 : decode cJ5_init_3 46 = .ok (.aload_n 0, 1) := dk_42 (dk_at dksJ5_init_3_1 23 rfl rfl)
theorem dJ5_init_3_47 : decode cJ5_init_3 47 = .ok (.aload_n 2, 1) := dk_44 (dk_at dksJ5_init_3_2 0 rfl rfl)
theorem dJ5_init_3_48 : decode cJ5_init_3 48 = .ok (.putfield 7, 3) := dk_181 0 7 (dk_at dksJ5_init_3_2 1 rfl rfl)
theorem dJ5_init_3_51 : decode cJ5_init_3 51 = .ok (.iload_n 3, 1) := dk_29 (dk_at dksJ5_init_3_2 4 rfl rfl)
theorem dJ5_init_3_52 : decode cJ5_init_3 52 = .ok (.ifCond .ne 8, 3) := dk_154 0 8 (dk_at dksJ5_init_3_2 5 rfl rfl)
theorem dJ5_init_3_55 : decode cJ5_init_3 55 = .ok (.aload_n 0, 1) := dk_42 (dk_at dksJ5_init_3_2 8 rfl rfl)
theorem dJ5_init_3_56 : decode cJ5_init_3 56 = .ok (.aconst_null, 1) := dk_1 (dk_at dksJ5_init_3_2 9 rfl rfl)
theorem dJ5_init_3_57 : decode cJ5_init_3 57 = .ok (.putfield 24, 3) := dk_181 0 24 (dk_at dksJ5_init_3_2 10 rfl rfl)
theorem dJ5_init_3_60 : decode cJ5_init_3 60 = .ok (.return_, 1) := dk_177 (dk_at dksJ5_init_3_2 13 rfl rfl)
/-- java/lang/Throwable.<init>(Ljava/lang/String;Ljava/lang/Throwable;ZZ)V -/
def zb302 (G : zPg) (C : zO) (args : List Value) (Q : zQ) (Y : zY) (σ : zS) : Prop := ∃ (a0 : Nat) (x1 : Option Nat) (x2 : Option Nat) (x3 : Int32) (x4 : Int32), args = [.ref a0, va_rf x1, va_rf x2, .int x3, .int x4] ∧ ((∃ a4, (some a0) = some a4 ∧ zputM σ G.1 (some a0) [11, 13, 15] 0 (va_rf (some a0)) (fun s6 => zputM s6 G.1 (some a0) [11, 13, 15] 1 (va_rf (zopt (G.2 60))) (fun s16 => zputM s16 G.1 (some a0) [11, 13, 15] 2 (va_rf (zopt (G.2 61))) (fun s26 => ((x4 = 0) → zputM s26 G.1 (some a0) [11, 13, 15] 1 (va_rf none) (fun s37 => zputM s37 G.1 (some a0) [11, 13, 15] 3 (va_rf x1) (fun s47 => zputM s47 G.1 (some a0) [11, 13, 15] 0 (va_rf x2) (fun s57 => zJ (fun  (s67 : zS) => Q none s67) (fun (j68 : zS → Prop) => ((¬ x3 = 0) → j68 s57) ∧ ((x3 = 0) → zputM s57 G.1 (some a0) [11, 13, 15] 2 (va_rf none) (fun s70 => j68 s70))))))) ∧ ((¬ x4 = 0) → False))))))
set_option maxHeartbeats 4000000 in
theorem wk302 {l : Launch} {g : zG} {d : Nat} {C : zO} (hG : zGk g) (hC : zSound l g d C) {args : List Value} {Q : zQ} {Y : zY} {σ : zS} (hw : zb302 (zpg g) C args Q Y σ) : zMet l g (d + 1) (⟨"java/lang/Throwable", "<init>", "(Ljava/lang/String;Ljava/lang/Throwable;ZZ)V"⟩, Cond.code ⟨"java/lang/Throwable", "<init>", "(Ljava/lang/String;Ljava/lang/Throwable;ZZ)V"⟩ prog_51_method_5_code 5 (Option.none : Option FieldType)) args σ Q Y := by
  obtain ⟨a0, x1, x2, x3, x4, rfl, hw⟩ := hw
  refine zof hG (by decide +kernel) [false, false, false, false, false] ⟨rfl, (zc_rf _), (zc_rf _), rfl, rfl, trivial⟩ (Nat.le_of_ble_eq_true rfl) (ls := [some (va_rf (some a0)), some (va_rf x1), some (va_rf x2), some (.int x3), some (.int x4)]) rfl ?_
  intro X hX hR hTb hd1 hd2 hl hg hnm
  subst hl
  subst hg
  have hd : zDep X d := ⟨hd1, hd2⟩
  refine z_aload_n hX dJ5_init_3_0 rfl (i := 0) rfl ?_
  obtain ⟨a4, r5, hw⟩ := hw
  refine z_oinit hX hd dJ5_init_3_1 q888 q191 q192 r5 rfl (zcs8 (Nat.le_of_ble_eq_true rfl)) ?_
  refine z_aload_n hX dJ5_init_3_4 rfl (i := 0) rfl ?_
  refine z_aload_n hX dJ5_init_3_5 rfl (i := 0) rfl ?_
  obtain ⟨a8, c14, f9, r10, h15, g11, m12, l13, hw⟩ := hw
  refine z_putM hX (tf := (.object "java/lang/Throwable")) (cs := [11, 13, 15]) (k := 0) (t := ("java/lang/Throwable", "cause", "Ljava/lang/Throwable;", false)) dJ5_init_3_6 (zfa1 ⟨_, _, _, _, zc11, (Nat.le_of_ble_eq_true rfl), rfl⟩ (zfa1 ⟨_, _, _, _, zc13, (Nat.le_of_ble_eq_true rfl), rfl⟩ (zfa1 ⟨_, _, _, _, zc15, (Nat.le_of_ble_eq_true rfl), rfl⟩ (zfa0)))) (zlk hX q918) rfl (by decide +kernel) (zn_o _ _) (zf_o _ _) r10 h15 g11 m12 l13 (z_nm (fun s6 e7 => ?_))
  have hw := hw s6 e7
  refine z_aload_n hX dJ5_init_3_9 rfl (i := 0) rfl ?_
  refine z_gets hX dJ5_init_3_10 (List.mem_of_getElem? (i := 8) rfl) q889 rfl ?_
  show zW _ _ _ _ (va_rf (zopt (X.g.2.2.2 60)) :: _)
  obtain ⟨a18, c24, f19, r20, h25, g21, m22, l23, hw⟩ := hw
  refine z_putM hX (tf := (.array (.object "java/lang/StackTraceElement"))) (cs := [11, 13, 15]) (k := 1) (t := ("java/lang/Throwable", "stackTrace", "[Ljava/lang/StackTraceElement;", false)) dJ5_init_3_13 (zfa1 ⟨_, _, _, _, zc11, (Nat.le_of_ble_eq_true rfl), rfl⟩ (zfa1 ⟨_, _, _, _, zc13, (Nat.le_of_ble_eq_true rfl), rfl⟩ (zfa1 ⟨_, _, _, _, zc15, (Nat.le_of_ble_eq_true rfl), rfl⟩ (zfa0)))) (zlk hX q919) rfl (by decide +kernel) (zn_a _ _) (zf_a _ _) r20 h25 g21 m22 l23 (z_nm (fun s16 e17 => ?_))
  have hw := hw s16 e17
  refine z_aload_n hX dJ5_init_3_16 rfl (i := 0) rfl ?_
  refine z_gets hX dJ5_init_3_17 (List.mem_of_getElem? (i := 9) rfl) q891 rfl ?_
  show zW _ _ _ _ (va_rf (zopt (X.g.2.2.2 61)) :: _)
  obtain ⟨a28, c34, f29, r30, h35, g31, m32, l33, hw⟩ := hw
  refine z_putM hX (tf := (.object "java/util/List")) (cs := [11, 13, 15]) (k := 2) (t := ("java/lang/Throwable", "suppressedExceptions", "Ljava/util/List;", false)) dJ5_init_3_20 (zfa1 ⟨_, _, _, _, zc11, (Nat.le_of_ble_eq_true rfl), rfl⟩ (zfa1 ⟨_, _, _, _, zc13, (Nat.le_of_ble_eq_true rfl), rfl⟩ (zfa1 ⟨_, _, _, _, zc15, (Nat.le_of_ble_eq_true rfl), rfl⟩ (zfa0)))) (zlk hX q920) rfl (by decide +kernel) (zn_o _ _) (zf_o _ _) r30 h35 g31 m32 l33 (z_nm (fun s26 e27 => ?_))
  have hw := hw s26 e27
  refine z_iload hX dJ5_init_3_23 (i := 4) rfl ?_
  refine z_if_eq hX dJ5_init_3_25 (tgt := 36) rfl (fun c36 => ?_) (fun c36 => ?_)
  · have hw := hw.1 c36
    refine z_aload_n hX dJ5_init_3_36 rfl (i := 0) rfl ?_
    refine z_null hX dJ5_init_3_37 ?_
    obtain ⟨a39, c45, f40, r41, h46, g42, m43, l44, hw⟩ := hw
    refine z_putM hX (tf := (.array (.object "java/lang/StackTraceElement"))) (cs := [11, 13, 15]) (k := 1) (t := ("java/lang/Throwable", "stackTrace", "[Ljava/lang/StackTraceElement;", false)) dJ5_init_3_38 (zfa1 ⟨_, _, _, _, zc11, (Nat.le_of_ble_eq_true rfl), rfl⟩ (zfa1 ⟨_, _, _, _, zc13, (Nat.le_of_ble_eq_true rfl), rfl⟩ (zfa1 ⟨_, _, _, _, zc15, (Nat.le_of_ble_eq_true rfl), rfl⟩ (zfa0)))) (zlk hX q919) rfl (by decide +kernel) (zn_a _ _) (zf_a _ _) r41 h46 g42 m43 l44 (z_nm (fun s37 e38 => ?_))
    have hw := hw s37 e38
    refine z_aload_n hX dJ5_init_3_41 rfl (i := 0) rfl ?_
    refine z_aload_n hX dJ5_init_3_42 rfl (i := 1) rfl ?_
    obtain ⟨a49, c55, f50, r51, h56, g52, m53, l54, hw⟩ := hw
    refine z_putM hX (tf := (.object "java/lang/String")) (cs := [11, 13, 15]) (k := 3) (t := ("java/lang/Throwable", "detailMessage", "Ljava/lang/String;", false)) dJ5_init_3_43 (zfa1 ⟨_, _, _, _, zc11, (Nat.le_of_ble_eq_true rfl), rfl⟩ (zfa1 ⟨_, _, _, _, zc13, (Nat.le_of_ble_eq_true rfl), rfl⟩ (zfa1 ⟨_, _, _, _, zc15, (Nat.le_of_ble_eq_true rfl), rfl⟩ (zfa0)))) (zlk hX q917) rfl (by decide +kernel) (zn_o _ _) (zf_o _ _) r51 h56 g52 m53 l54 (z_nm (fun s47 e48 => ?_))
    have hw := hw s47 e48
    refine z_aload_n hX dJ5_init_3_46 rfl (i := 0) rfl ?_
    refine z_aload_n hX dJ5_init_3_47 rfl (i := 2) rfl ?_
    obtain ⟨a59, c65, f60, r61, h66, g62, m63, l64, hw⟩ := hw
    refine z_putM hX (tf := (.object "java/lang/Throwable")) (cs := [11, 13, 15]) (k := 0) (t := ("java/lang/Throwable", "cause", "Ljava/lang/Throwable;", false)) dJ5_init_3_48 (zfa1 ⟨_, _, _, _, zc11, (Nat.le_of_ble_eq_true rfl), rfl⟩ (zfa1 ⟨_, _, _, _, zc13, (Nat.le_of_ble_eq_true rfl), rfl⟩ (zfa1 ⟨_, _, _, _, zc15, (Nat.le_of_ble_eq_true rfl), rfl⟩ (zfa0)))) (zlk hX q918) rfl (by decide +kernel) (zn_o _ _) (zf_o _ _) r61 h66 g62 m63 l64 (z_nm (fun s57 e58 => ?_))
    have hw := hw s57 e58
    refine z_iload_n hX dJ5_init_3_51 rfl (i := 3) rfl ?_
    refine zJ_w (P := fun (j : zS → Prop) => ∀  (s67 : zS), j  s67 → zW X s67 60 [none, none, none, none, none] []) hw (fun  s67 hw => ?_) (fun j68 hj68 hw => ?_)
    · exact z_return hX hR dJ5_init_3_60 hw
    · refine z_if_ne hX dJ5_init_3_52 (tgt := 60) rfl (fun c69 => ?_) (fun c69 => ?_)
      · have hw := hw.1 c69
        refine z_sub (ls' := [none, none, none, none, none]) (zsN (zsN (zsN (zsN (zsN (zs0)))))) ?_
        exact hj68  _ hw
      · have hw := hw.2 c69
        refine z_aload_n hX dJ5_init_3_55 rfl (i := 0) rfl ?_
        refine z_null hX dJ5_init_3_56 ?_
        obtain ⟨a72, c78, f73, r74, h79, g75, m76, l77, hw⟩ := hw
        refine z_putM hX (tf := (.object "java/util/List")) (cs := [11, 13, 15]) (k := 2) (t := ("java/lang/Throwable", "suppressedExceptions", "Ljava/util/List;", false)) dJ5_init_3_57 (zfa1 ⟨_, _, _, _, zc11, (Nat.le_of_ble_eq_true rfl), rfl⟩ (zfa1 ⟨_, _, _, _, zc13, (Nat.le_of_ble_eq_true rfl), rfl⟩ (zfa1 ⟨_, _, _, _, zc15, (Nat.le_of_ble_eq_true rfl), rfl⟩ (zfa0)))) (zlk hX q920) rfl (by decide +kernel) (zn_o _ _) (zf_o _ _) r74 h79 g75 m76 l77 (z_nm (fun s70 e71 => ?_))
        have hw := hw s70 e71
        refine z_sub (ls' := [none, none, none, none, none]) (zsN (zsN (zsN (zsN (zsN (zs0)))))) ?_
        exact hj68  _ hw
  · have hw := hw.2 c36
    refine z_aload_n hX dJ5_init_3_28 rfl (i := 0) rfl ?_
    exact hw.elim
def RJ6 : String := "java/lang/Exception"
abbrev cJ6_init : ByteArray := prog_36_method_1_code
def yJ6_init : MethodName := ⟨RJ6, "<init>", "()V"⟩
theorem dJ6_init_0 : decode cJ6_init 0 = .ok (.aload_n 0, 1) := by decide +kernel
theorem dJ6_init_1 : decode cJ6_init 1 = .ok (.invokespecial 1, 3) := by decide +kernel
theorem dJ6_init_4 : decode cJ6_init 4 = .ok (.return_, 1) := by decide +kernel
/-- java/lang/Exception.<init>()V -/
def zb303 (G : zPg) (C : zO) (args : List Value) (Q : zQ) (Y : zY) (σ : zS) : Prop := ∃ (a0 : Nat), args = [.ref a0] ∧ ((∃ a4, (some a0) = some a4 ∧ zcl C 300 [.ref a4] Y σ (zqV (fun s2 => Q none s2))))
set_option maxHeartbeats 4000000 in
theorem wk303 {l : Launch} {g : zG} {d : Nat} {C : zO} (hG : zGk g) (hC : zSound l g d C) {args : List Value} {Q : zQ} {Y : zY} {σ : zS} (hw : zb303 (zpg g) C args Q Y σ) : zMet l g (d + 1) (⟨"java/lang/Exception", "<init>", "()V"⟩, Cond.code ⟨"java/lang/Exception", "<init>", "()V"⟩ prog_36_method_1_code 1 (Option.none : Option FieldType)) args σ Q Y := by
  obtain ⟨a0, rfl, hw⟩ := hw
  refine zof hG (by decide +kernel) [false] ⟨rfl, trivial⟩ (Nat.le_of_ble_eq_true rfl) (ls := [some (va_rf (some a0))]) rfl ?_
  intro X hX hR hTb hd1 hd2 hl hg hnm
  subst hl
  subst hg
  have hd : zDep X d := ⟨hd1, hd2⟩
  refine z_aload_n hX dJ6_init_0 rfl (i := 0) rfl ?_
  obtain ⟨a4, r5, hw⟩ := hw
  refine z_invI hX hd r5 dJ6_init_1 (hC 300 _ zm300 _ _ _ _ hw) q915 q886 rfl zh9 q887 q138 zn300 rfl (Nat.le_of_ble_eq_true rfl) (st := []) rfl (zcs8 (Nat.le_of_ble_eq_true rfl)) rfl (zkV (fun s2 hw => ?_)) (zout hX hR hTb)
  exact z_return hX hR dJ6_init_4 hw
abbrev cJ6_init_2 : ByteArray := prog_36_method_2_code
def yJ6_init_2 : MethodName := ⟨RJ6, "<init>", "(Ljava/lang/String;)V"⟩
def dkwJ6_init_2_0 : List UInt8 := [42, 43, 183, 0, 7, 177]
abbrev dktJ6_init_2_0 : List UInt8 := dkwJ6_init_2_0 ++ []
theorem dksJ6_init_2_0 : cJ6_init_2.data.toList.drop 0 = dktJ6_init_2_0 := by decide +kernel
theorem dJ6_init_2_0 : decode cJ6_init_2 0 = .ok (.aload_n 0, 1) := dk_42 (dk_at dksJ6_init_2_0 0 rfl rfl)
theorem dJ6_init_2_1 : decode cJ6_init_2 1 = .ok (.aload_n 1, 1) := dk_43 (dk_at dksJ6_init_2_0 1 rfl rfl)
theorem dJ6_init_2_2 : decode cJ6_init_2 2 = .ok (.invokespecial 7, 3) := dk_183 0 7 (dk_at dksJ6_init_2_0 2 rfl rfl)
theorem dJ6_init_2_5 : decode cJ6_init_2 5 = .ok (.return_, 1) := dk_177 (dk_at dksJ6_init_2_0 5 rfl rfl)
/-- java/lang/Exception.<init>(Ljava/lang/String;)V -/
def zb304 (G : zPg) (C : zO) (args : List Value) (Q : zQ) (Y : zY) (σ : zS) : Prop := ∃ (a0 : Nat) (x1 : Option Nat), args = [.ref a0, va_rf x1] ∧ ((∃ a4, (some a0) = some a4 ∧ zcl C 301 [.ref a4, va_rf x1] Y σ (zqV (fun s2 => Q none s2))))
set_option maxHeartbeats 4000000 in
theorem wk304 {l : Launch} {g : zG} {d : Nat} {C : zO} (hG : zGk g) (hC : zSound l g d C) {args : List Value} {Q : zQ} {Y : zY} {σ : zS} (hw : zb304 (zpg g) C args Q Y σ) : zMet l g (d + 1) (⟨"java/lang/Exception", "<init>", "(Ljava/lang/String;)V"⟩, Cond.code ⟨"java/lang/Exception", "<init>", "(Ljava/lang/String;)V"⟩ prog_36_method_2_code 2 (Option.none : Option FieldType)) args σ Q Y := by
  obtain ⟨a0, x1, rfl, hw⟩ := hw
  refine zof hG (by decide +kernel) [false, false] ⟨rfl, (zc_rf _), trivial⟩ (Nat.le_of_ble_eq_true rfl) (ls := [some (va_rf (some a0)), some (va_rf x1)]) rfl ?_
  intro X hX hR hTb hd1 hd2 hl hg hnm
  subst hl
  subst hg
  have hd : zDep X d := ⟨hd1, hd2⟩
  refine z_aload_n hX dJ6_init_2_0 rfl (i := 0) rfl ?_
  refine z_aload_n hX dJ6_init_2_1 rfl (i := 1) rfl ?_
  obtain ⟨a4, r5, hw⟩ := hw
  refine z_invI hX hd r5 dJ6_init_2_2 (hC 301 _ zm301 _ _ _ _ hw) q1314 q1315 rfl zh9 q1316 q138 zn301 rfl (Nat.le_of_ble_eq_true rfl) (st := []) rfl (zcs8 (Nat.le_of_ble_eq_true rfl)) rfl (zkV (fun s2 hw => ?_)) (zout hX hR hTb)
  exact z_return hX hR dJ6_init_2_5 hw
abbrev cJ6_init_3 : ByteArray := prog_36_method_5_code
def yJ6_init_3 : MethodName := ⟨RJ6, "<init>", "(Ljava/lang/String;Ljava/lang/Throwable;ZZ)V"⟩
def dkwJ6_init_3_0 : List UInt8 := [42, 43, 44, 29, 21, 4, 183, 0, 16, 177]
abbrev dktJ6_init_3_0 : List UInt8 := dkwJ6_init_3_0 ++ []
theorem dksJ6_init_3_0 : cJ6_init_3.data.toList.drop 0 = dktJ6_init_3_0 := by decide +kernel
theorem dJ6_init_3_0 : decode cJ6_init_3 0 = .ok (.aload_n 0, 1) := dk_42 (dk_at dksJ6_init_3_0 0 rfl rfl)
theorem dJ6_init_3_1 : decode cJ6_init_3 1 = .ok (.aload_n 1, 1) := dk_43 (dk_at dksJ6_init_3_0 1 rfl rfl)
theorem dJ6_init_3_2 : decode cJ6_init_3 2 = .ok (.aload_n 2, 1) := dk_44 (dk_at dksJ6_init_3_0 2 rfl rfl)
theorem dJ6_init_3_3 : decode cJ6_init_3 3 = .ok (.iload_n 3, 1) := dk_29 (dk_at dksJ6_init_3_0 3 rfl rfl)
theorem dJ6_init_3_4 : decode cJ6_init_3 4 = .ok (.iload 4, 2) := dk_21 4 (dk_at dksJ6_init_3_0 4 rfl rfl)
theorem dJ6_init_3_6 : decode cJ6_init_3 6 = .ok (.invokespecial 16, 3) := dk_183 0 16 (dk_at dksJ6_init_3_0 6 rfl rfl)
theorem dJ6_init_3_9 : decode cJ6_init_3 9 = .ok (.return_, 1) := dk_177 (dk_at dksJ6_init_3_0 9 rfl rfl)
/-- java/lang/Exception.<init>(Ljava/lang/String;Ljava/lang/Throwable;ZZ)V -/
def zb305 (G : zPg) (C : zO) (args : List Value) (Q : zQ) (Y : zY) (σ : zS) : Prop := ∃ (a0 : Nat) (x1 : Option Nat) (x2 : Option Nat) (x3 : Int32) (x4 : Int32), args = [.ref a0, va_rf x1, va_rf x2, .int x3, .int x4] ∧ ((∃ a4, (some a0) = some a4 ∧ zcl C 302 [.ref a4, va_rf x1, va_rf x2, .int x3, .int x4] Y σ (zqV (fun s2 => Q none s2))))
set_option maxHeartbeats 4000000 in
theorem wk305 {l : Launch} {g : zG} {d : Nat} {C : zO} (hG : zGk g) (hC : zSound l g d C) {args : List Value} {Q : zQ} {Y : zY} {σ : zS} (hw : zb305 (zpg g) C args Q Y σ) : zMet l g (d + 1) (⟨"java/lang/Exception", "<init>", "(Ljava/lang/String;Ljava/lang/Throwable;ZZ)V"⟩, Cond.code ⟨"java/lang/Exception", "<init>", "(Ljava/lang/String;Ljava/lang/Throwable;ZZ)V"⟩ prog_36_method_5_code 5 (Option.none : Option FieldType)) args σ Q Y := by
  obtain ⟨a0, x1, x2, x3, x4, rfl, hw⟩ := hw
  refine zof hG (by decide +kernel) [false, false, false, false, false] ⟨rfl, (zc_rf _), (zc_rf _), rfl, rfl, trivial⟩ (Nat.le_of_ble_eq_true rfl) (ls := [some (va_rf (some a0)), some (va_rf x1), some (va_rf x2), some (.int x3), some (.int x4)]) rfl ?_
  intro X hX hR hTb hd1 hd2 hl hg hnm
  subst hl
  subst hg
  have hd : zDep X d := ⟨hd1, hd2⟩
  refine z_aload_n hX dJ6_init_3_0 rfl (i := 0) rfl ?_
  refine z_aload_n hX dJ6_init_3_1 rfl (i := 1) rfl ?_
  refine z_aload_n hX dJ6_init_3_2 rfl (i := 2) rfl ?_
  refine z_iload_n hX dJ6_init_3_3 rfl (i := 3) rfl ?_
  refine z_iload hX dJ6_init_3_4 (i := 4) rfl ?_
  obtain ⟨a4, r5, hw⟩ := hw
  refine z_invI hX hd r5 dJ6_init_3_6 (hC 302 _ zm302 _ _ _ _ hw) q1458 q1459 rfl zh9 q1460 q138 zn302 rfl (Nat.le_of_ble_eq_true rfl) (st := []) rfl (zcs8 (Nat.le_of_ble_eq_true rfl)) rfl (zkV (fun s2 hw => ?_)) (zout hX hR hTb)
  exact z_return hX hR dJ6_init_3_9 hw
def RJ7 : String := "java/lang/RuntimeException"
abbrev cJ7_init : ByteArray := prog_44_method_1_code
def yJ7_init : MethodName := ⟨RJ7, "<init>", "()V"⟩
theorem dJ7_init_0 : decode cJ7_init 0 = .ok (.aload_n 0, 1) := by decide +kernel
theorem dJ7_init_1 : decode cJ7_init 1 = .ok (.invokespecial 1, 3) := by decide +kernel
theorem dJ7_init_4 : decode cJ7_init 4 = .ok (.return_, 1) := by decide +kernel
/-- java/lang/RuntimeException.<init>()V -/
def zb306 (G : zPg) (C : zO) (args : List Value) (Q : zQ) (Y : zY) (σ : zS) : Prop := ∃ (a0 : Nat), args = [.ref a0] ∧ ((∃ a4, (some a0) = some a4 ∧ zcl C 303 [.ref a4] Y σ (zqV (fun s2 => Q none s2))))
set_option maxHeartbeats 4000000 in
theorem wk306 {l : Launch} {g : zG} {d : Nat} {C : zO} (hG : zGk g) (hC : zSound l g d C) {args : List Value} {Q : zQ} {Y : zY} {σ : zS} (hw : zb306 (zpg g) C args Q Y σ) : zMet l g (d + 1) (⟨"java/lang/RuntimeException", "<init>", "()V"⟩, Cond.code ⟨"java/lang/RuntimeException", "<init>", "()V"⟩ prog_44_method_1_code 1 (Option.none : Option FieldType)) args σ Q Y := by
  obtain ⟨a0, rfl, hw⟩ := hw
  refine zof hG (by decide +kernel) [false] ⟨rfl, trivial⟩ (Nat.le_of_ble_eq_true rfl) (ls := [some (va_rf (some a0))]) rfl ?_
  intro X hX hR hTb hd1 hd2 hl hg hnm
  subst hl
  subst hg
  have hd : zDep X d := ⟨hd1, hd2⟩
  refine z_aload_n hX dJ7_init_0 rfl (i := 0) rfl ?_
  obtain ⟨a4, r5, hw⟩ := hw
  refine z_invI hX hd r5 dJ7_init_1 (hC 303 _ zm303 _ _ _ _ hw) q912 q913 rfl zh10 q914 q139 zn303 rfl (Nat.le_of_ble_eq_true rfl) (st := []) rfl (zcs8 (Nat.le_of_ble_eq_true rfl)) rfl (zkV (fun s2 hw => ?_)) (zout hX hR hTb)
  exact z_return hX hR dJ7_init_4 hw
abbrev cJ7_init_2 : ByteArray := prog_44_method_2_code
def yJ7_init_2 : MethodName := ⟨RJ7, "<init>", "(Ljava/lang/String;)V"⟩
def dkwJ7_init_2_0 : List UInt8 := [42, 43, 183, 0, 7, 177]
abbrev dktJ7_init_2_0 : List UInt8 := dkwJ7_init_2_0 ++ []
theorem dksJ7_init_2_0 : cJ7_init_2.data.toList.drop 0 = dktJ7_init_2_0 := by decide +kernel
theorem dJ7_init_2_0 : decode cJ7_init_2 0 = .ok (.aload_n 0, 1) := dk_42 (dk_at dksJ7_init_2_0 0 rfl rfl)
theorem dJ7_init_2_1 : decode cJ7_init_2 1 = .ok (.aload_n 1, 1) := dk_43 (dk_at dksJ7_init_2_0 1 rfl rfl)
theorem dJ7_init_2_2 : decode cJ7_init_2 2 = .ok (.invokespecial 7, 3) := dk_183 0 7 (dk_at dksJ7_init_2_0 2 rfl rfl)
theorem dJ7_init_2_5 : decode cJ7_init_2 5 = .ok (.return_, 1) := dk_177 (dk_at dksJ7_init_2_0 5 rfl rfl)
/-- java/lang/RuntimeException.<init>(Ljava/lang/String;)V -/
def zb307 (G : zPg) (C : zO) (args : List Value) (Q : zQ) (Y : zY) (σ : zS) : Prop := ∃ (a0 : Nat) (x1 : Option Nat), args = [.ref a0, va_rf x1] ∧ ((∃ a4, (some a0) = some a4 ∧ zcl C 304 [.ref a4, va_rf x1] Y σ (zqV (fun s2 => Q none s2))))
set_option maxHeartbeats 4000000 in
theorem wk307 {l : Launch} {g : zG} {d : Nat} {C : zO} (hG : zGk g) (hC : zSound l g d C) {args : List Value} {Q : zQ} {Y : zY} {σ : zS} (hw : zb307 (zpg g) C args Q Y σ) : zMet l g (d + 1) (⟨"java/lang/RuntimeException", "<init>", "(Ljava/lang/String;)V"⟩, Cond.code ⟨"java/lang/RuntimeException", "<init>", "(Ljava/lang/String;)V"⟩ prog_44_method_2_code 2 (Option.none : Option FieldType)) args σ Q Y := by
  obtain ⟨a0, x1, rfl, hw⟩ := hw
  refine zof hG (by decide +kernel) [false, false] ⟨rfl, (zc_rf _), trivial⟩ (Nat.le_of_ble_eq_true rfl) (ls := [some (va_rf (some a0)), some (va_rf x1)]) rfl ?_
  intro X hX hR hTb hd1 hd2 hl hg hnm
  subst hl
  subst hg
  have hd : zDep X d := ⟨hd1, hd2⟩
  refine z_aload_n hX dJ7_init_2_0 rfl (i := 0) rfl ?_
  refine z_aload_n hX dJ7_init_2_1 rfl (i := 1) rfl ?_
  obtain ⟨a4, r5, hw⟩ := hw
  refine z_invI hX hd r5 dJ7_init_2_2 (hC 304 _ zm304 _ _ _ _ hw) q1311 q1312 rfl zh10 q1313 q139 zn304 rfl (Nat.le_of_ble_eq_true rfl) (st := []) rfl (zcs8 (Nat.le_of_ble_eq_true rfl)) rfl (zkV (fun s2 hw => ?_)) (zout hX hR hTb)
  exact z_return hX hR dJ7_init_2_5 hw
abbrev cJ8_init : ByteArray := prog_37_method_1_code
def yJ8_init : MethodName := ⟨RJ8, "<init>", "()V"⟩
theorem dJ8_init_0 : decode cJ8_init 0 = .ok (.aload_n 0, 1) := by decide +kernel
theorem dJ8_init_1 : decode cJ8_init 1 = .ok (.invokespecial 1, 3) := by decide +kernel
theorem dJ8_init_4 : decode cJ8_init 4 = .ok (.return_, 1) := by decide +kernel
/-- java/lang/IllegalArgumentException.<init>()V -/
def zb308 (G : zPg) (C : zO) (args : List Value) (Q : zQ) (Y : zY) (σ : zS) : Prop := ∃ (a0 : Nat), args = [.ref a0] ∧ ((∃ a4, (some a0) = some a4 ∧ zcl C 306 [.ref a4] Y σ (zqV (fun s2 => Q none s2))))
set_option maxHeartbeats 4000000 in
theorem wk308 {l : Launch} {g : zG} {d : Nat} {C : zO} (hG : zGk g) (hC : zSound l g d C) {args : List Value} {Q : zQ} {Y : zY} {σ : zS} (hw : zb308 (zpg g) C args Q Y σ) : zMet l g (d + 1) (⟨"java/lang/IllegalArgumentException", "<init>", "()V"⟩, Cond.code ⟨"java/lang/IllegalArgumentException", "<init>", "()V"⟩ prog_37_method_1_code 1 (Option.none : Option FieldType)) args σ Q Y := by
  obtain ⟨a0, rfl, hw⟩ := hw
  refine zof hG (by decide +kernel) [false] ⟨rfl, trivial⟩ (Nat.le_of_ble_eq_true rfl) (ls := [some (va_rf (some a0))]) rfl ?_
  intro X hX hR hTb hd1 hd2 hl hg hnm
  subst hl
  subst hg
  have hd : zDep X d := ⟨hd1, hd2⟩
  refine z_aload_n hX dJ8_init_0 rfl (i := 0) rfl ?_
  obtain ⟨a4, r5, hw⟩ := hw
  refine z_invI hX hd r5 dJ8_init_1 (hC 306 _ zm306 _ _ _ _ hw) q1082 q910 rfl zh11 q911 q140 zn306 rfl (Nat.le_of_ble_eq_true rfl) (st := []) rfl (zcs8 (Nat.le_of_ble_eq_true rfl)) rfl (zkV (fun s2 hw => ?_)) (zout hX hR hTb)
  exact z_return hX hR dJ8_init_4 hw
abbrev cJ8_init_2 : ByteArray := prog_37_method_2_code
def yJ8_init_2 : MethodName := ⟨RJ8, "<init>", "(Ljava/lang/String;)V"⟩
def dkwJ8_init_2_0 : List UInt8 := [42, 43, 183, 0, 7, 177]
abbrev dktJ8_init_2_0 : List UInt8 := dkwJ8_init_2_0 ++ []
theorem dksJ8_init_2_0 : cJ8_init_2.data.toList.drop 0 = dktJ8_init_2_0 := by decide +kernel
theorem dJ8_init_2_0 : decode cJ8_init_2 0 = .ok (.aload_n 0, 1) := dk_42 (dk_at dksJ8_init_2_0 0 rfl rfl)
theorem dJ8_init_2_1 : decode cJ8_init_2 1 = .ok (.aload_n 1, 1) := dk_43 (dk_at dksJ8_init_2_0 1 rfl rfl)
theorem dJ8_init_2_2 : decode cJ8_init_2 2 = .ok (.invokespecial 7, 3) := dk_183 0 7 (dk_at dksJ8_init_2_0 2 rfl rfl)
theorem dJ8_init_2_5 : decode cJ8_init_2 5 = .ok (.return_, 1) := dk_177 (dk_at dksJ8_init_2_0 5 rfl rfl)
/-- java/lang/IllegalArgumentException.<init>(Ljava/lang/String;)V -/
def zb309 (G : zPg) (C : zO) (args : List Value) (Q : zQ) (Y : zY) (σ : zS) : Prop := ∃ (a0 : Nat) (x1 : Option Nat), args = [.ref a0, va_rf x1] ∧ ((∃ a4, (some a0) = some a4 ∧ zcl C 307 [.ref a4, va_rf x1] Y σ (zqV (fun s2 => Q none s2))))
set_option maxHeartbeats 4000000 in
theorem wk309 {l : Launch} {g : zG} {d : Nat} {C : zO} (hG : zGk g) (hC : zSound l g d C) {args : List Value} {Q : zQ} {Y : zY} {σ : zS} (hw : zb309 (zpg g) C args Q Y σ) : zMet l g (d + 1) (⟨"java/lang/IllegalArgumentException", "<init>", "(Ljava/lang/String;)V"⟩, Cond.code ⟨"java/lang/IllegalArgumentException", "<init>", "(Ljava/lang/String;)V"⟩ prog_37_method_2_code 2 (Option.none : Option FieldType)) args σ Q Y := by
  obtain ⟨a0, x1, rfl, hw⟩ := hw
  refine zof hG (by decide +kernel) [false, false] ⟨rfl, (zc_rf _), trivial⟩ (Nat.le_of_ble_eq_true rfl) (ls := [some (va_rf (some a0)), some (va_rf x1)]) rfl ?_
  intro X hX hR hTb hd1 hd2 hl hg hnm
  subst hl
  subst hg
  have hd : zDep X d := ⟨hd1, hd2⟩
  refine z_aload_n hX dJ8_init_2_0 rfl (i := 0) rfl ?_
  refine z_aload_n hX dJ8_init_2_1 rfl (i := 1) rfl ?_
  obtain ⟨a4, r5, hw⟩ := hw
  refine z_invI hX hd r5 dJ8_init_2_2 (hC 307 _ zm307 _ _ _ _ hw) q1308 q1309 rfl zh11 q1310 q140 zn307 rfl (Nat.le_of_ble_eq_true rfl) (st := []) rfl (zcs8 (Nat.le_of_ble_eq_true rfl)) rfl (zkV (fun s2 hw => ?_)) (zout hX hR hTb)
  exact z_return hX hR dJ8_init_2_5 hw
def RJ9 : String := "java/lang/AbstractStringBuilder"
abbrev cJ9_init : ByteArray := prog_30_method_2_code
def yJ9_init : MethodName := ⟨RJ9, "<init>", "(I)V"⟩
def dkwJ9_init_1 : List UInt8 := [167, 0, 16, 42, 27, 184, 0, 26, 181, 0, 15, 42, 4, 181, 0, 22, 177]
abbrev dktJ9_init_1 : List UInt8 := dkwJ9_init_1 ++ []
def dkwJ9_init_0 : List UInt8 := [42, 183, 0, 3, 178, 0, 18, 153, 0, 18, 42, 27, 188, 8, 181, 0, 15, 42, 3, 181, 0, 22]
abbrev dktJ9_init_0 : List UInt8 := dkwJ9_init_0 ++ dktJ9_init_1
theorem dksJ9_init_0 : cJ9_init.data.toList.drop 0 = dktJ9_init_0 := by decide +kernel
theorem dksJ9_init_1 : cJ9_init.data.toList.drop 22 = dktJ9_init_1 := dk_seg dksJ9_init_0 22 rfl rfl
theorem dJ9_init_0 : decode cJ9_init 0 = .ok (.aload_n 0, 1) := dk_42 (dk_at dksJ9_init_0 0 rfl rfl)
theorem dJ9_init_1 : decode cJ9_init 1 = .ok (.invokespecial 3, 3) := dk_183 0 3 (dk_at dksJ9_init_0 1 rfl rfl)
theorem dJ9_init_4 : decode cJ9_init 4 = .ok (.getstatic 18, 3) := dk_178 0 18 (dk_at dksJ9_init_0 4 rfl rfl)
theorem dJ9_init_7 : decode cJ9_init 7 = .ok (.ifCond .eq 18, 3) := dk_153 0 18 (dk_at dksJ9_init_0 7 rfl rfl)
theorem dJ9_init_10 : decode cJ9_init 10 = .ok (.aload_n 0, 1) := dk_42 (dk_at dksJ9_init_0 10 rfl rfl)
theorem dJ9_init_11 : decode cJ9_init 11 = .ok (.iload_n 1, 1) := dk_27 (dk_at dksJ9_init_0 11 rfl rfl)
theorem dJ9_init_12 : decode cJ9_init 12 = .ok (.newarray .byte, 2) := dk_188_8 (dk_at dksJ9_init_0 12 rfl rfl)
theorem dJ9_init_14 : decode cJ9_init 14 = .ok (.putfield 15, 3) := dk_181 0 15 (dk_at dksJ9_init_0 14 rfl rfl)
theorem dJ9_init_17 : decode cJ9_init 17 = .ok (.aload_n 0, 1) := dk_42 (dk_at dksJ9_init_0 17 rfl rfl)
theorem dJ9_init_18 : decode cJ9_init 18 = .ok (.iconst 0, 1) := dk_3 (dk_at dksJ9_init_0 18 rfl rfl)
theorem dJ9_init_19 : decode cJ9_init 19 = .ok (.putfield 22, 3) := dk_181 0 22 (dk_at dksJ9_init_0 19 rfl rfl)
theorem dJ9_init_22 : decode cJ9_init 22 = .ok (.goto 16, 3) := dk_167 0 16 (dk_at dksJ9_init_1 0 rfl rfl)
theorem dJ9_init_25 : decode cJ9_init 25 = .ok (.aload_n 0, 1) := dk_42 (dk_at dksJ9_init_1 3 rfl rfl)
theorem dJ9_init_26 : decode cJ9_init 26 = .ok (.iload_n 1, 1) := dk_27 (dk_at dksJ9_init_1 4 rfl rfl)
theorem dJ9_init_27 : decode cJ9_init 27 = .ok (.invokestatic 26, 3) := dk_184 0 26 (dk_at dksJ9_init_1 5 rfl rfl)
theorem dJ9_init_30 : decode cJ9_init 30 = .ok (.putfield 15, 3) := dk_181 0 15 (dk_at dksJ9_init_1 8 rfl rfl)
theorem dJ9_init_33 : decode cJ9_init 33 = .ok (.aload_n 0, 1) := dk_42 (dk_at dksJ9_init_1 11 rfl rfl)
theorem dJ9_init_34 : decode cJ9_init 34 = .ok (.iconst 1, 1) := dk_4 (dk_at dksJ9_init_1 12 rfl rfl)
theorem dJ9_init_35 : decode cJ9_init 35 = .ok (.putfield 22, 3) := dk_181 0 22 (dk_at dksJ9_init_1 13 rfl rfl)
theorem dJ9_init_38 : decode cJ9_init 38 = .ok (.return_, 1) := dk_177 (dk_at dksJ9_init_1 16 rfl rfl)
/-- java/lang/AbstractStringBuilder.<init>(I)V -/
def zb331 (G : zPg) (C : zO) (args : List Value) (Q : zQ) (Y : zY) (σ : zS) : Prop := ∃ (a0 : Nat) (x1 : Int32), args = [.ref a0, .int x1] ∧ ((∃ a1, (some a0) = some a1 ∧ zJ (fun  (s3 : zS) => Q none s3) (fun (j4 : zS → Prop) => (((1 : Int32) = 0) → zcl C 374 [.int x1] Y σ (zqR (fun v6 s7 => zput s7 G.1 (some a0) 8 0 (va_rf v6) (fun s9 => ((narrow .byte (.int (1 : Int32)) = .int (1 : Int32) ∧ fits .byte (.int (1 : Int32)) = true) ∧ zput s9 G.1 (some a0) 8 1 (.int (1 : Int32)) (fun s17 => j4 s17)))))) ∧ ((¬ (1 : Int32) = 0) → znewA σ 2 x1 (.inl (fun _ => 0)) (fun s26 => zput s26 G.1 (some a0) 8 0 (va_rf (some σ.2.1)) (fun s29 => ((narrow .byte (.int (0 : Int32)) = .int (0 : Int32) ∧ fits .byte (.int (0 : Int32)) = true) ∧ zput s29 G.1 (some a0) 8 1 (.int (0 : Int32)) (fun s37 => j4 s37))))))))
set_option maxHeartbeats 4000000 in
theorem wk331 {l : Launch} {g : zG} {d : Nat} {C : zO} (hG : zGk g) (hC : zSound l g d C) {args : List Value} {Q : zQ} {Y : zY} {σ : zS} (hw : zb331 (zpg g) C args Q Y σ) : zMet l g (d + 1) (⟨"java/lang/AbstractStringBuilder", "<init>", "(I)V"⟩, Cond.code ⟨"java/lang/AbstractStringBuilder", "<init>", "(I)V"⟩ prog_30_method_2_code 2 (Option.none : Option FieldType)) args σ Q Y := by
  obtain ⟨a0, x1, rfl, hw⟩ := hw
  refine zof hG (by decide +kernel) [false, false] ⟨rfl, rfl, trivial⟩ (Nat.le_of_ble_eq_true rfl) (ls := [some (va_rf (some a0)), some (.int x1)]) rfl ?_
  intro X hX hR hTb hd1 hd2 hl hg hnm
  subst hl
  subst hg
  have hd : zDep X d := ⟨hd1, hd2⟩
  refine z_aload_n hX dJ9_init_0 rfl (i := 0) rfl ?_
  obtain ⟨a1, r2, hw⟩ := hw
  refine z_oinit hX hd dJ9_init_1 q1102 q191 q192 r2 rfl (zcs8 (Nat.le_of_ble_eq_true rfl)) ?_
  refine z_gets hX dJ9_init_4 (List.mem_of_getElem? (i := 11) rfl) q1103 rfl ?_
  show zW _ _ _ _ (.int (1 : Int32) :: _)
  refine zJ_w (P := fun (j : zS → Prop) => ∀  (s3 : zS), j  s3 → zW X s3 38 [none, none] []) hw (fun  s3 hw => ?_) (fun j4 hj4 hw => ?_)
  · exact z_return hX hR dJ9_init_38 hw
  · refine z_if_eq hX dJ9_init_7 (tgt := 25) rfl (fun c5 => ?_) (fun c5 => ?_)
    · have hw := hw.1 c5
      refine z_aload_n hX dJ9_init_25 rfl (i := 0) rfl ?_
      refine z_iload_n hX dJ9_init_26 rfl (i := 1) rfl ?_
      refine z_invS hX hd dJ9_init_27 (hC 374 _ zm374 _ _ _ _ hw) q1104 q1105 zh18 q1106 q147 zn374 rfl (Nat.le_of_ble_eq_true rfl) (st := [va_rf (some a0)]) rfl (zcs8 (Nat.le_of_ble_eq_true rfl)) rfl (zkR (fun v6 s7 hw => ?_)) (zout hX hR hTb)
      obtain ⟨a11, f12, r13, g14, m15, l16, hw⟩ := hw
      refine z_put hX zc8 (k := 0) dJ9_init_30 (Nat.le_of_ble_eq_true rfl) (zlk hX q1111) rfl (zn_a _ _) (zf_a _ _) r13 g14 m15 l16 (z_nm (fun s9 e10 => ?_))
      have hw := hw s9 e10
      refine z_aload_n hX dJ9_init_33 rfl (i := 0) rfl ?_
      refine z_iconst hX (v := (1 : Int32)) dJ9_init_34 (by decide) ?_
      obtain ⟨b25, hw⟩ := hw
      obtain ⟨a19, f20, r21, g22, m23, l24, hw⟩ := hw
      refine z_put hX zc8 (k := 1) dJ9_init_35 (Nat.le_of_ble_eq_true rfl) (zlk hX q1112) rfl b25.1 b25.2 r21 g22 m23 l24 (z_nm (fun s17 e18 => ?_))
      have hw := hw s17 e18
      refine z_sub (ls' := [none, none]) (zsN (zsN (zs0))) ?_
      exact hj4  _ hw
    · have hw := hw.2 c5
      refine z_aload_n hX dJ9_init_10 rfl (i := 0) rfl ?_
      refine z_iload_n hX dJ9_init_11 rfl (i := 1) rfl ?_
      refine z_newB hX dJ9_init_12 q330 hw.1 hw.2.1 hw.2.2.1 hw.2.2.2.1 (fun z27 => z_nm (fun s26 e28 => ?_))
      have hw := hw.2.2.2.2 z27 s26 e28
      obtain ⟨a31, f32, r33, g34, m35, l36, hw⟩ := hw
      refine z_put hX zc8 (k := 0) dJ9_init_14 (Nat.le_of_ble_eq_true rfl) (zlk hX q1111) rfl (zn_a _ _) (zf_a _ _) r33 g34 m35 l36 (z_nm (fun s29 e30 => ?_))
      have hw := hw s29 e30
      refine z_aload_n hX dJ9_init_17 rfl (i := 0) rfl ?_
      refine z_iconst hX (v := (0 : Int32)) dJ9_init_18 (by decide) ?_
      obtain ⟨b45, hw⟩ := hw
      obtain ⟨a39, f40, r41, g42, m43, l44, hw⟩ := hw
      refine z_put hX zc8 (k := 1) dJ9_init_19 (Nat.le_of_ble_eq_true rfl) (zlk hX q1112) rfl b45.1 b45.2 r41 g42 m43 l44 (z_nm (fun s37 e38 => ?_))
      have hw := hw s37 e38
      refine z_goto hX dJ9_init_22 (tgt := 38) rfl ?_
      refine z_sub (ls' := [none, none]) (zsN (zsN (zs0))) ?_
      exact hj4  _ hw
abbrev cJ9_setLength : ByteArray := prog_30_method_13_code
def yJ9_setLength : MethodName := ⟨RJ9, "setLength", "(I)V"⟩
def dkwJ9_setLength_3 : List UInt8 := [164, 0, 8, 42, 4, 181, 0, 73, 42, 27, 181, 0, 79, 177]
abbrev dktJ9_setLength_3 : List UInt8 := dkwJ9_setLength_3 ++ []
def dkwJ9_setLength_2 : List UInt8 := [167, 0, 31, 42, 180, 0, 15, 42, 180, 0, 79, 27, 184, 0, 137, 167, 0, 16, 42, 180, 0, 79, 27]
abbrev dktJ9_setLength_2 : List UInt8 := dkwJ9_setLength_2 ++ dktJ9_setLength_3
def dkwJ9_setLength_1 : List UInt8 := [162, 0, 40, 42, 182, 0, 83, 153, 0, 18, 42, 180, 0, 15, 42, 180, 0, 79, 27, 184, 0, 133]
abbrev dktJ9_setLength_1 : List UInt8 := dkwJ9_setLength_1 ++ dktJ9_setLength_2
def dkwJ9_setLength_0 : List UInt8 := [27, 156, 0, 12, 187, 0, 129, 89, 27, 183, 0, 131, 191, 42, 27, 182, 0, 100, 42, 180, 0, 79, 27]
abbrev dktJ9_setLength_0 : List UInt8 := dkwJ9_setLength_0 ++ dktJ9_setLength_1
theorem dksJ9_setLength_0 : cJ9_setLength.data.toList.drop 0 = dktJ9_setLength_0 := by decide +kernel
theorem dksJ9_setLength_1 : cJ9_setLength.data.toList.drop 23 = dktJ9_setLength_1 := dk_seg dksJ9_setLength_0 23 rfl rfl
theorem dksJ9_setLength_2 : cJ9_setLength.data.toList.drop 45 = dktJ9_setLength_2 := dk_seg dksJ9_setLength_1 22 rfl rfl
theorem dksJ9_setLength_3 : cJ9_setLength.data.toList.drop 68 = dktJ9_setLength_3 := dk_seg dksJ9_setLength_2 23 rfl rfl
theorem dJ9_setLength_0 : decode cJ9_setLength 0 = .ok (.iload_n 1, 1) := dk_27 (dk_at dksJ9_setLength_0 0 rfl rfl)
theorem dJ9_setLength_1 : decode cJ9_setLength 1 = .ok (.ifCond .ge 12, 3) := dk_156 0 12 (dk_at dksJ9_setLength_0 1 rfl rfl)
theorem dJ9_setLength_4 : decode cJ9_setLength 4 = .ok (.new 129, 3) := dk_187 0 129 (dk_at dksJ9_setLength_0 4 rfl rfl)
theorem dJ9_setLength_7 : decode cJ9_setLength 7 = .ok (.dup, 1) := dk_89 (dk_at dksJ9_setLength_0 7 rfl rfl)
theorem dJ9_setLength_8 : decode cJ9_setLength 8 = .ok (.iload_n 1, 1) := dk_27 (dk_at dksJ9_setLength_0 8 rfl rfl)
theorem dJ9_setLength_9 : decode cJ9_setLength 9 = .ok (.invokespecial 131, 3) := dk_183 0 131 (dk_at dksJ9_setLength_0 9 rfl rfl)
theorem dJ9_setLength_12 : decode cJ9_setLength 12 = .ok (.athrow, 1) := dk_191 (dk_at dksJ9_setLength_0 12 rfl rfl)
theorem dJ9_setLength_13 : decode cJ9_setLength 13 = .ok (.aload_n 0, 1) := dk_42 (dk_at dksJ9_setLength_0 13 rfl rfl)
theorem dJ9_setLength_14 : decode cJ9_setLength 14 = .ok (.iload_n 1, 1) := dk_27 (dk_at dksJ9_setLength_0 14 rfl rfl)
theorem dJ9_setLength_15 : decode cJ9_setLength 15 = .ok (.invokevirtual 100, 3) := dk_182 0 100 (dk_at dksJ9_setLength_0 15 rfl rfl)
theorem dJ9_setLength_18 : decode cJ9_setLength 18 = .ok (.aload_n 0, 1) := dk_42 (dk_at dksJ9_setLength_0 18 rfl rfl)
theorem dJ9_setLength_19 : decode cJ9_setLength 19 = .ok (.getfield 79, 3) := dk_180 0 79 (dk_at dksJ9_setLength_0 19 rfl rfl)
theorem dJ9_setLength_22 : decode cJ9_setLength 22 = .ok (.iload_n 1, 1) := dk_27 (dk_at dksJ9_setLength_0 22 rfl rfl)
theorem dJ9_setLength_23 : decode cJ9_setLength 23 = .ok (.if_icmp .ge 40, 3) := dk_162 0 40 (dk_at dksJ9_setLength_1 0 rfl rfl)
theorem dJ9_setLength_26 : decode cJ9_setLength 26 = .ok (.aload_n 0, 1) := dk_42 (dk_at dksJ9_setLength_1 3 rfl rfl)
theorem dJ9_setLength_27 : decode cJ9_setLength 27 = .ok (.invokevirtual 83, 3) := dk_182 0 83 (dk_at dksJ9_setLength_1 4 rfl rfl)
theorem dJ9_setLength_30 : decode cJ9_setLength 30 = .ok (.ifCond .eq 18, 3) := dk_153 0 18 (dk_at dksJ9_setLength_1 7 rfl rfl)
theorem dJ9_setLength_33 : decode cJ9_setLength 33 = .ok (.aload_n 0, 1) := dk_42 (dk_at dksJ9_setLength_1 10 rfl rfl)
theorem dJ9_setLength_34 : decode cJ9_setLength 34 = .ok (.getfield 15, 3) := dk_180 0 15 (dk_at dksJ9_setLength_1 11 rfl rfl)
theorem dJ9_setLength_37 : decode cJ9_setLength 37 = .ok (.aload_n 0, 1) := dk_42 (dk_at dksJ9_setLength_1 14 rfl rfl)
theorem dJ9_setLength_38 : decode cJ9_setLength 38 = .ok (.getfield 79, 3) := dk_180 0 79 (dk_at dksJ9_setLength_1 15 rfl rfl)
theorem dJ9_setLength_41 : decode cJ9_setLength 41 = .ok (.iload_n 1, 1) := dk_27 (dk_at dksJ9_setLength_1 18 rfl rfl)
theorem dJ9_setLength_42 : decode cJ9_setLength 42 = .ok (.invokestatic 133, 3) := dk_184 0 133 (dk_at dksJ9_setLength_1 19 rfl rfl)
theorem dJ9_setLength_45 : decode cJ9_setLength 45 = .ok (.goto 31, 3) := dk_167 0 31 (dk_at dksJ9_setLength_2 0 rfl rfl)
theorem dJ9_setLength_48 : decode cJ9_setLength 48 = .ok (.aload_n 0, 1) := dk_42 (dk_at dksJ9_setLength_2 3 rfl rfl)
theorem dJ9_setLength_49 : decode cJ9_setLength 49 = .ok (.getfield 15, 3) := dk_180 0 15 (dk_at dksJ9_setLength_2 4 rfl rfl)
theorem dJ9_setLength_52 : decode cJ9_setLength 52 = .ok (.aload_n 0, 1) := dk_42 (dk_at dksJ9_setLength_2 7 rfl rfl)
theorem dJ9_setLength_53 : decode cJ9_setLength 53 = .ok (.getfield 79, 3) := dk_180 0 79 (dk_at dksJ9_setLength_2 8 rfl rfl)
theorem dJ9_setLength_56 : decode cJ9_setLength 56 = .ok (.iload_n 1, 1) := dk_27 (dk_at dksJ9_setLength_2 11 rfl rfl)
theorem dJ9_setLength_57 : decode cJ9_setLength 57 = .ok (.invokestatic 137, 3) := dk_184 0 137 (dk_at dksJ9_setLength_2 12 rfl rfl)
theorem dJ9_setLength_60 : decode cJ9_setLength 60 = .ok (.goto 16, 3) := dk_167 0 16 (dk_at dksJ9_setLength_2 15 rfl rfl)
theorem dJ9_setLength_63 : decode cJ9_setLength 63 = .ok (.aload_n 0, 1) := dk_42 (dk_at dksJ9_setLength_2 18 rfl rfl)
theorem dJ9_setLength_64 : decode cJ9_setLength 64 = .ok (.getfield 79, 3) := dk_180 0 79 (dk_at dksJ9_setLength_2 19 rfl rfl)
theorem dJ9_setLength_67 : decode cJ9_setLength 67 = .ok (.iload_n 1, 1) := dk_27 (dk_at dksJ9_setLength_2 22 rfl rfl)
theorem dJ9_setLength_68 : decode cJ9_setLength 68 = .ok (.if_icmp .le 8, 3) := dk_164 0 8 (dk_at dksJ9_setLength_3 0 rfl rfl)
theorem dJ9_setLength_71 : decode cJ9_setLength 71 = .ok (.aload_n 0, 1) := dk_42 (dk_at dksJ9_setLength_3 3 rfl rfl)
theorem dJ9_setLength_72 : decode cJ9_setLength 72 = .ok (.iconst 1, 1) := dk_4 (dk_at dksJ9_setLength_3 4 rfl rfl)
theorem dJ9_setLength_73 : decode cJ9_setLength 73 = .ok (.putfield 73, 3) := dk_181 0 73 (dk_at dksJ9_setLength_3 5 rfl rfl)
theorem dJ9_setLength_76 : decode cJ9_setLength 76 = .ok (.aload_n 0, 1) := dk_42 (dk_at dksJ9_setLength_3 8 rfl rfl)
theorem dJ9_setLength_77 : decode cJ9_setLength 77 = .ok (.iload_n 1, 1) := dk_27 (dk_at dksJ9_setLength_3 9 rfl rfl)
theorem dJ9_setLength_78 : decode cJ9_setLength 78 = .ok (.putfield 79, 3) := dk_181 0 79 (dk_at dksJ9_setLength_3 10 rfl rfl)
theorem dJ9_setLength_81 : decode cJ9_setLength 81 = .ok (.return_, 1) := dk_177 (dk_at dksJ9_setLength_3 13 rfl rfl)
/-- java/lang/AbstractStringBuilder.setLength(I)V -/
def zb332 (G : zPg) (C : zO) (args : List Value) (Q : zQ) (Y : zY) (σ : zS) : Prop := ∃ (a0 : Nat) (x1 : Int32), args = [.ref a0, .int x1] ∧ (((0 ≤ x1) → zrc σ (some a0) 8 (fun a5 => zcl C 333 [.ref a5, .int x1] Y σ (zqV (fun s3 => zgI s3 (some a0) 8 3 (fun v9 => zJ (fun  (s15 : zS) => zput s15 G.1 (some a0) 8 3 (.int x1) (fun s17 => Q none s17)) (fun (j16 : zS → Prop) => ((x1 ≤ v9) → zgI s3 (some a0) 8 3 (fun v26 => ((v26 ≤ x1) → j16 s3) ∧ ((¬ v26 ≤ x1) → (zbool (1 : Int32) ∧ zput s3 G.1 (some a0) 8 2 (.int (1 : Int32)) (fun s33 => j16 s33))))) ∧ ((¬ x1 ≤ v9) → zrc s3 (some a0) 8 (fun a45 => zcl C 335 [.ref a45] Y s3 (zqI (fun v42 s43 => ((v42 = 0) → zgR s43 (some a0) 8 0 (fun v50 => zgI s43 (some a0) 8 3 (fun v56 => zcl C 386 [va_rf v50, .int v56, .int x1] Y s43 (zqV (fun s63 => j16 s63))))) ∧ ((¬ v42 = 0) → zgR s43 (some a0) 8 0 (fun v65 => zgI s43 (some a0) 8 3 (fun v71 => zcl C 415 [va_rf v65, .int v71, .int x1] Y s43 (zqV (fun s78 => j16 s78))))))))))))))) ∧ ((¬ 0 ≤ x1) → False))
set_option maxHeartbeats 4000000 in
theorem wk332 {l : Launch} {g : zG} {d : Nat} {C : zO} (hG : zGk g) (hC : zSound l g d C) {args : List Value} {Q : zQ} {Y : zY} {σ : zS} (hw : zb332 (zpg g) C args Q Y σ) : zMet l g (d + 1) (⟨"java/lang/AbstractStringBuilder", "setLength", "(I)V"⟩, Cond.code ⟨"java/lang/AbstractStringBuilder", "setLength", "(I)V"⟩ prog_30_method_13_code 2 (Option.none : Option FieldType)) args σ Q Y := by
  obtain ⟨a0, x1, rfl, hw⟩ := hw
  refine zof hG (by decide +kernel) [false, false] ⟨rfl, rfl, trivial⟩ (Nat.le_of_ble_eq_true rfl) (ls := [some (va_rf (some a0)), some (.int x1)]) rfl ?_
  intro X hX hR hTb hd1 hd2 hl hg hnm
  subst hl
  subst hg
  have hd : zDep X d := ⟨hd1, hd2⟩
  refine z_iload_n hX dJ9_setLength_0 rfl (i := 1) rfl ?_
  refine z_if_ge hX dJ9_setLength_1 (tgt := 13) rfl (fun c1 => ?_) (fun c1 => ?_)
  · have hw := hw.1 c1
    refine z_aload_n hX dJ9_setLength_13 rfl (i := 0) rfl ?_
    refine z_iload_n hX dJ9_setLength_14 rfl (i := 1) rfl ?_
    obtain ⟨a5, f6, r7, m8, hw⟩ := hw
    refine z_invVP hX hd r7 (ci := 8) rfl rfl m8 dJ9_setLength_15 (hC 333 _ zm333 _ _ _ _ hw) q1142 q1144 (z_selP hX (ci := 8) rfl q1143 q1144 zh15 q1165 rfl) zh15 q1145 q144 zn333 rfl (Nat.le_of_ble_eq_true rfl) (st := []) rfl (zcs8 (Nat.le_of_ble_eq_true rfl)) rfl (zkV (fun s3 hw => ?_)) (zout hX hR hTb)
    refine z_aload_n hX dJ9_setLength_18 rfl (i := 0) rfl ?_
    obtain ⟨a10, f11, v9, r12, m13, e14, hw⟩ := hw
    refine z_get hX zc8 (k := 3) dJ9_setLength_19 (Nat.le_of_ble_eq_true rfl) (zlk hX q1115) r12 m13 e14 ?_
    refine z_iload_n hX dJ9_setLength_22 rfl (i := 1) rfl ?_
    refine zJ_w (P := fun (j : zS → Prop) => ∀  (s15 : zS), j  s15 → zW X s15 76 [some (va_rf (some a0)), some (.int x1)] []) hw (fun  s15 hw => ?_) (fun j16 hj16 hw => ?_)
    · refine z_aload_n hX dJ9_setLength_76 rfl (i := 0) rfl ?_
      refine z_iload_n hX dJ9_setLength_77 rfl (i := 1) rfl ?_
      obtain ⟨a19, f20, r21, g22, m23, l24, hw⟩ := hw
      refine z_put hX zc8 (k := 3) dJ9_setLength_78 (Nat.le_of_ble_eq_true rfl) (zlk hX q1115) rfl rfl rfl r21 g22 m23 l24 (z_nm (fun s17 e18 => ?_))
      have hw := hw s17 e18
      exact z_return hX hR dJ9_setLength_81 hw
    · refine z_icmp_ge hX dJ9_setLength_23 (tgt := 63) rfl (fun c25 => ?_) (fun c25 => ?_)
      · have hw := hw.1 c25
        refine z_aload_n hX dJ9_setLength_63 rfl (i := 0) rfl ?_
        obtain ⟨a27, f28, v26, r29, m30, e31, hw⟩ := hw
        refine z_get hX zc8 (k := 3) dJ9_setLength_64 (Nat.le_of_ble_eq_true rfl) (zlk hX q1115) r29 m30 e31 ?_
        refine z_iload_n hX dJ9_setLength_67 rfl (i := 1) rfl ?_
        refine z_icmp_le hX dJ9_setLength_68 (tgt := 76) rfl (fun c32 => ?_) (fun c32 => ?_)
        · have hw := hw.1 c32
          exact hj16  _ hw
        · have hw := hw.2 c32
          refine z_aload_n hX dJ9_setLength_71 rfl (i := 0) rfl ?_
          refine z_iconst hX (v := (1 : Int32)) dJ9_setLength_72 (by decide) ?_
          obtain ⟨b41, hw⟩ := hw
          obtain ⟨a35, f36, r37, g38, m39, l40, hw⟩ := hw
          refine z_put hX zc8 (k := 2) dJ9_setLength_73 (Nat.le_of_ble_eq_true rfl) (zlk hX q1113) rfl (zn_z b41) (zf_z b41) r37 g38 m39 l40 (z_nm (fun s33 e34 => ?_))
          have hw := hw s33 e34
          exact hj16  _ hw
      · have hw := hw.2 c25
        refine z_aload_n hX dJ9_setLength_26 rfl (i := 0) rfl ?_
        obtain ⟨a45, f46, r47, m48, hw⟩ := hw
        refine z_invV hX hd r47 (ci := 8) rfl rfl m48 dJ9_setLength_27 (hC 335 _ zm335 _ _ _ _ hw) q1162 q1163 q1165 zh15 q1166 q144 zn335 rfl (Nat.le_of_ble_eq_true rfl) (st := []) rfl (zcs8 (Nat.le_of_ble_eq_true rfl)) rfl (zkI (fun v42 s43 hw => ?_)) (zout hX hR hTb)
        refine z_if_eq hX dJ9_setLength_30 (tgt := 48) rfl (fun c49 => ?_) (fun c49 => ?_)
        · have hw := hw.1 c49
          refine z_aload_n hX dJ9_setLength_48 rfl (i := 0) rfl ?_
          obtain ⟨a51, f52, v50, r53, m54, e55, hw⟩ := hw
          refine z_get hX zc8 (k := 0) dJ9_setLength_49 (Nat.le_of_ble_eq_true rfl) (zlk hX q1111) r53 m54 e55 ?_
          refine z_aload_n hX dJ9_setLength_52 rfl (i := 0) rfl ?_
          obtain ⟨a57, f58, v56, r59, m60, e61, hw⟩ := hw
          refine z_get hX zc8 (k := 3) dJ9_setLength_53 (Nat.le_of_ble_eq_true rfl) (zlk hX q1115) r59 m60 e61 ?_
          refine z_iload_n hX dJ9_setLength_56 rfl (i := 1) rfl ?_
          refine z_invS hX hd dJ9_setLength_57 (hC 386 _ zm386 _ _ _ _ hw) q1340 q1341 zh18 q1342 q147 zn386 rfl (Nat.le_of_ble_eq_true rfl) (st := []) rfl (zcs8 (Nat.le_of_ble_eq_true rfl)) rfl (zkV (fun s63 hw => ?_)) (zout hX hR hTb)
          refine z_goto hX dJ9_setLength_60 (tgt := 76) rfl ?_
          exact hj16  _ hw
        · have hw := hw.2 c49
          refine z_aload_n hX dJ9_setLength_33 rfl (i := 0) rfl ?_
          obtain ⟨a66, f67, v65, r68, m69, e70, hw⟩ := hw
          refine z_get hX zc8 (k := 0) dJ9_setLength_34 (Nat.le_of_ble_eq_true rfl) (zlk hX q1111) r68 m69 e70 ?_
          refine z_aload_n hX dJ9_setLength_37 rfl (i := 0) rfl ?_
          obtain ⟨a72, f73, v71, r74, m75, e76, hw⟩ := hw
          refine z_get hX zc8 (k := 3) dJ9_setLength_38 (Nat.le_of_ble_eq_true rfl) (zlk hX q1115) r74 m75 e76 ?_
          refine z_iload_n hX dJ9_setLength_41 rfl (i := 1) rfl ?_
          refine z_invS hX hd dJ9_setLength_42 (hC 415 _ zm415 _ _ _ _ hw) q1167 q1168 zh21 q1169 q151 zn415 rfl (Nat.le_of_ble_eq_true rfl) (st := []) rfl (zcs8 (Nat.le_of_ble_eq_true rfl)) rfl (zkV (fun s78 hw => ?_)) (zout hX hR hTb)
          refine z_goto hX dJ9_setLength_45 (tgt := 76) rfl ?_
          exact hj16  _ hw
  · have hw := hw.2 c1
    exact hw.elim
abbrev cJ9_ensureCapacityInternal : ByteArray := prog_30_method_9_code
def yJ9_ensureCapacityInternal : MethodName := ⟨RJ9, "ensureCapacityInternal", "(I)V"⟩
def dkwJ9_ensureCapacityInternal_1 : List UInt8 := [182, 0, 104, 42, 180, 0, 22, 120, 184, 0, 108, 181, 0, 15, 177]
abbrev dktJ9_ensureCapacityInternal_1 : List UInt8 := dkwJ9_ensureCapacityInternal_1 ++ []
def dkwJ9_ensureCapacityInternal_0 : List UInt8 := [42, 180, 0, 15, 190, 42, 180, 0, 22, 122, 61, 27, 28, 100, 158, 0, 24, 42, 42, 180, 0, 15, 42, 27]
abbrev dktJ9_ensureCapacityInternal_0 : List UInt8 := dkwJ9_ensureCapacityInternal_0 ++ dktJ9_ensureCapacityInternal_1
theorem dksJ9_ensureCapacityInternal_0 : cJ9_ensureCapacityInternal.data.toList.drop 0 = dktJ9_ensureCapacityInternal_0 := by decide +kernel
theorem dksJ9_ensureCapacityInternal_1 : cJ9_ensureCapacityInternal.data.toList.drop 24 = dktJ9_ensureCapacityInternal_1 := dk_seg dksJ9_ensureCapacityInternal_0 24 rfl rfl
theorem dJ9_ensureCapacityInternal_0 : decode cJ9_ensureCapacityInternal 0 = .ok (.aload_n 0, 1) := dk_42 (dk_at dksJ9_ensureCapacityInternal_0 0 rfl rfl)
theorem dJ9_ensureCapacityInternal_1 : decode cJ9_ensureCapacityInternal 1 = .ok (.getfield 15, 3) := dk_180 0 15 (dk_at dksJ9_ensureCapacityInternal_0 1 rfl rfl)
theorem dJ9_ensureCapacityInternal_4 : decode cJ9_ensureCapacityInternal 4 = .ok (.arraylength, 1) := dk_190 (dk_at dksJ9_ensureCapacityInternal_0 4 rfl rfl)
theorem dJ9_ensureCapacityInternal_5 : decode cJ9_ensureCapacityInternal 5 = .ok (.aload_n 0, 1) := dk_42 (dk_at dksJ9_ensureCapacityInternal_0 5 rfl rfl)
theorem dJ9_ensureCapacityInternal_6 : decode cJ9_ensureCapacityInternal 6 = .ok (.getfield 22, 3) := dk_180 0 22 (dk_at dksJ9_ensureCapacityInternal_0 6 rfl rfl)
theorem dJ9_ensureCapacityInternal_9 : decode cJ9_ensureCapacityInternal 9 = .ok (.ishr, 1) := dk_122 (dk_at dksJ9_ensureCapacityInternal_0 9 rfl rfl)
theorem dJ9_ensureCapacityInternal_10 : decode cJ9_ensureCapacityInternal 10 = .ok (.istore_n 2, 1) := dk_61 (dk_at dksJ9_ensureCapacityInternal_0 10 rfl rfl)
theorem dJ9_ensureCapacityInternal_11 : decode cJ9_ensureCapacityInternal 11 = .ok (.iload_n 1, 1) := dk_27 (dk_at dksJ9_ensureCapacityInternal_0 11 rfl rfl)
theorem dJ9_ensureCapacityInternal_12 : decode cJ9_ensureCapacityInternal 12 = .ok (.iload_n 2, 1) := dk_28 (dk_at dksJ9_ensureCapacityInternal_0 12 rfl rfl)
theorem dJ9_ensureCapacityInternal_13 : decode cJ9_ensureCapacityInternal 13 = .ok (.isub, 1) := dk_100 (dk_at dksJ9_ensureCapacityInternal_0 13 rfl rfl)
theorem dJ9_ensureCapacityInternal_14 : decode cJ9_ensureCapacityInternal 14 = .ok (.ifCond .le 24, 3) := dk_158 0 24 (dk_at dksJ9_ensureCapacityInternal_0 14 rfl rfl)
theorem dJ9_ensureCapacityInternal_17 : decode cJ9_ensureCapacityInternal 17 = .ok (.aload_n 0, 1) := dk_42 (dk_at dksJ9_ensureCapacityInternal_0 17 rfl rfl)
theorem dJ9_ensureCapacityInternal_18 : decode cJ9_ensureCapacityInternal 18 = .ok (.aload_n 0, 1) := dk_42 (dk_at dksJ9_ensureCapacityInternal_0 18 rfl rfl)
theorem dJ9_ensureCapacityInternal_19 : decode cJ9_ensureCapacityInternal 19 = .ok (.getfield 15, 3) := dk_180 0 15 (dk_at dksJ9_ensureCapacityInternal_0 19 rfl rfl)
theorem dJ9_ensureCapacityInternal_22 : decode cJ9_ensureCapacityInternal 22 = .ok (.aload_n 0, 1) := dk_42 (dk_at dksJ9_ensureCapacityInternal_0 22 rfl rfl)
theorem dJ9_ensureCapacityInternal_23 : decode cJ9_ensureCapacityInternal 23 = .ok (.iload_n 1, 1) := dk_27 (dk_at dksJ9_ensureCapacityInternal_0 23 rfl rfl)
theorem dJ9_ensureCapacityInternal_24 : decode cJ9_ensureCapacityInternal 24 = .ok (.invokevirtual 104, 3) := dk_182 0 104 (dk_at dksJ9_ensureCapacityInternal_1 0 rfl rfl)
theorem dJ9_ensureCapacityInternal_27 : decode cJ9_ensureCapacityInternal 27 = .ok (.aload_n 0, 1) := dk_42 (dk_at dksJ9_ensureCapacityInternal_1 3 rfl rfl)
theorem dJ9_ensureCapacityInternal_28 : decode cJ9_ensureCapacityInternal 28 = .ok (.getfield 22, 3) := dk_180 0 22 (dk_at dksJ9_ensureCapacityInternal_1 4 rfl rfl)
theorem dJ9_ensureCapacityInternal_31 : decode cJ9_ensureCapacityInternal 31 = .ok (.ishl, 1) := dk_120 (dk_at dksJ9_ensureCapacityInternal_1 7 rfl rfl)
theorem dJ9_ensureCapacityInternal_32 : decode cJ9_ensureCapacityInternal 32 = .ok (.invokestatic 108, 3) := dk_184 0 108 (dk_at dksJ9_ensureCapacityInternal_1 8 rfl rfl)
theorem dJ9_ensureCapacityInternal_35 : decode cJ9_ensureCapacityInternal 35 = .ok (.putfield 15, 3) := dk_181 0 15 (dk_at dksJ9_ensureCapacityInternal_1 11 rfl rfl)
theorem dJ9_ensureCapacityInternal_38 : decode cJ9_ensureCapacityInternal 38 = .ok (.return_, 1) := dk_177 (dk_at dksJ9_ensureCapacityInternal_1 14 rfl rfl)
/-- java/lang/AbstractStringBuilder.ensureCapacityInternal(I)V -/
def zb333 (G : zPg) (C : zO) (args : List Value) (Q : zQ) (Y : zY) (σ : zS) : Prop := ∃ (a0 : Nat) (x1 : Int32), args = [.ref a0, .int x1] ∧ (zgR σ (some a0) 8 0 (fun v1 => zln σ 2 v1 (fun v11 => zgI σ (some a0) 8 1 (fun v13 => zJ (fun  (s19 : zS) => Q none s19) (fun (j20 : zS → Prop) => (((x1 - (v11 >>> (v13 &&& 31))) ≤ 0) → j20 σ) ∧ ((¬ (x1 - (v11 >>> (v13 &&& 31))) ≤ 0) → zgR σ (some a0) 8 0 (fun v22 => zrc σ (some a0) 8 (fun a31 => zcl C 334 [.ref a31, .int x1] Y σ (zqI (fun v28 s29 => zgI s29 (some a0) 8 1 (fun v35 => zcl C 408 [va_rf v22, .int (v28 <<< (v35 &&& 31))] Y s29 (zqR (fun v41 s42 => zput s42 G.1 (some a0) 8 0 (va_rf v41) (fun s44 => j20 s44))))))))))))))
set_option maxHeartbeats 4000000 in
theorem wk333 {l : Launch} {g : zG} {d : Nat} {C : zO} (hG : zGk g) (hC : zSound l g d C) {args : List Value} {Q : zQ} {Y : zY} {σ : zS} (hw : zb333 (zpg g) C args Q Y σ) : zMet l g (d + 1) (⟨"java/lang/AbstractStringBuilder", "ensureCapacityInternal", "(I)V"⟩, Cond.code ⟨"java/lang/AbstractStringBuilder", "ensureCapacityInternal", "(I)V"⟩ prog_30_method_9_code 3 (Option.none : Option FieldType)) args σ Q Y := by
  obtain ⟨a0, x1, rfl, hw⟩ := hw
  refine zof hG (by decide +kernel) [false, false] ⟨rfl, rfl, trivial⟩ (Nat.le_of_ble_eq_true rfl) (ls := [some (va_rf (some a0)), some (.int x1), none]) rfl ?_
  intro X hX hR hTb hd1 hd2 hl hg hnm
  subst hl
  subst hg
  have hd : zDep X d := ⟨hd1, hd2⟩
  refine z_aload_n hX dJ9_ensureCapacityInternal_0 rfl (i := 0) rfl ?_
  obtain ⟨a2, f3, v1, r4, m5, e6, hw⟩ := hw
  refine z_get hX zc8 (k := 0) dJ9_ensureCapacityInternal_1 (Nat.le_of_ble_eq_true rfl) (zlk hX q1111) r4 m5 e6 ?_
  obtain ⟨a7, n8, r9, m10, hw⟩ := hw
  refine z_alen hX 2 dJ9_ensureCapacityInternal_4 r9 m10 ?_
  revert hw
  generalize nI n8.1 = v11
  intro hw
  refine z_aload_n hX dJ9_ensureCapacityInternal_5 rfl (i := 0) rfl ?_
  obtain ⟨a14, f15, v13, r16, m17, e18, hw⟩ := hw
  refine z_get hX zc8 (k := 1) dJ9_ensureCapacityInternal_6 (Nat.le_of_ble_eq_true rfl) (zlk hX q1112) r16 m17 e18 ?_
  refine z_ishr hX dJ9_ensureCapacityInternal_9 ?_
  refine z_istore_n hX dJ9_ensureCapacityInternal_10 rfl (i := 2) (Nat.le_of_ble_eq_true rfl) rfl (ls2 := [some (va_rf (some a0)), some (.int x1), some (.int (v11 >>> (v13 &&& 31)))]) rfl ?_
  refine z_iload_n hX dJ9_ensureCapacityInternal_11 rfl (i := 1) rfl ?_
  refine z_iload_n hX dJ9_ensureCapacityInternal_12 rfl (i := 2) rfl ?_
  refine z_isub hX dJ9_ensureCapacityInternal_13 ?_
  refine zJ_w (P := fun (j : zS → Prop) => ∀  (s19 : zS), j  s19 → zW X s19 38 [none, none, none] []) hw (fun  s19 hw => ?_) (fun j20 hj20 hw => ?_)
  · exact z_return hX hR dJ9_ensureCapacityInternal_38 hw
  · refine z_if_le hX dJ9_ensureCapacityInternal_14 (tgt := 38) rfl (fun c21 => ?_) (fun c21 => ?_)
    · have hw := hw.1 c21
      refine z_sub (ls' := [none, none, none]) (zsN (zsN (zsN (zs0)))) ?_
      exact hj20  _ hw
    · have hw := hw.2 c21
      refine z_aload_n hX dJ9_ensureCapacityInternal_17 rfl (i := 0) rfl ?_
      refine z_aload_n hX dJ9_ensureCapacityInternal_18 rfl (i := 0) rfl ?_
      obtain ⟨a23, f24, v22, r25, m26, e27, hw⟩ := hw
      refine z_get hX zc8 (k := 0) dJ9_ensureCapacityInternal_19 (Nat.le_of_ble_eq_true rfl) (zlk hX q1111) r25 m26 e27 ?_
      refine z_aload_n hX dJ9_ensureCapacityInternal_22 rfl (i := 0) rfl ?_
      refine z_iload_n hX dJ9_ensureCapacityInternal_23 rfl (i := 1) rfl ?_
      obtain ⟨a31, f32, r33, m34, hw⟩ := hw
      refine z_invVP hX hd r33 (ci := 8) rfl rfl m34 dJ9_ensureCapacityInternal_24 (hC 334 _ zm334 _ _ _ _ hw) q1146 q1148 (z_selP hX (ci := 8) rfl q1147 q1148 zh15 q1165 rfl) zh15 q1149 q144 zn334 rfl (Nat.le_of_ble_eq_true rfl) (st := [va_rf v22, va_rf (some a0)]) rfl (zcs8 (Nat.le_of_ble_eq_true rfl)) rfl (zkI (fun v28 s29 hw => ?_)) (zout hX hR hTb)
      refine z_aload_n hX dJ9_ensureCapacityInternal_27 rfl (i := 0) rfl ?_
      obtain ⟨a36, f37, v35, r38, m39, e40, hw⟩ := hw
      refine z_get hX zc8 (k := 1) dJ9_ensureCapacityInternal_28 (Nat.le_of_ble_eq_true rfl) (zlk hX q1112) r38 m39 e40 ?_
      refine z_ishl hX dJ9_ensureCapacityInternal_31 ?_
      refine z_invS hX hd dJ9_ensureCapacityInternal_32 (hC 408 _ zm408 _ _ _ _ hw) q1152 q1153 zh20 q1154 q149 zn408 rfl (Nat.le_of_ble_eq_true rfl) (st := [va_rf (some a0)]) rfl (zcs8 (Nat.le_of_ble_eq_true rfl)) rfl (zkR (fun v41 s42 hw => ?_)) (zout hX hR hTb)
      obtain ⟨a46, f47, r48, g49, m50, l51, hw⟩ := hw
      refine z_put hX zc8 (k := 0) dJ9_ensureCapacityInternal_35 (Nat.le_of_ble_eq_true rfl) (zlk hX q1111) rfl (zn_a _ _) (zf_a _ _) r48 g49 m50 l51 (z_nm (fun s44 e45 => ?_))
      have hw := hw s44 e45
      refine z_sub (ls' := [none, none, none]) (zsN (zsN (zsN (zs0)))) ?_
      exact hj20  _ hw
abbrev cJ9_newCapacity : ByteArray := prog_30_method_10_code
def yJ9_newCapacity : MethodName := ⟨RJ9, "newCapacity", "(I)I"⟩
def dkwJ9_newCapacity_2 : List UInt8 := [183, 0, 124, 191, 21, 5, 42, 180, 0, 22, 122, 172]
abbrev dktJ9_newCapacity_2 : List UInt8 := dkwJ9_newCapacity_2 ++ []
def dkwJ9_newCapacity_1 : List UInt8 := [180, 0, 22, 120, 96, 184, 0, 114, 54, 5, 21, 5, 18, 39, 160, 0, 13, 187, 0, 120, 89, 18, 122]
abbrev dktJ9_newCapacity_1 : List UInt8 := dkwJ9_newCapacity_1 ++ dktJ9_newCapacity_2
def dkwJ9_newCapacity_0 : List UInt8 := [42, 180, 0, 15, 190, 61, 27, 42, 180, 0, 22, 120, 62, 29, 28, 100, 54, 4, 28, 21, 4, 28, 5, 42]
abbrev dktJ9_newCapacity_0 : List UInt8 := dkwJ9_newCapacity_0 ++ dktJ9_newCapacity_1
theorem dksJ9_newCapacity_0 : cJ9_newCapacity.data.toList.drop 0 = dktJ9_newCapacity_0 := by decide +kernel
theorem dksJ9_newCapacity_1 : cJ9_newCapacity.data.toList.drop 24 = dktJ9_newCapacity_1 := dk_seg dksJ9_newCapacity_0 24 rfl rfl
theorem dksJ9_newCapacity_2 : cJ9_newCapacity.data.toList.drop 47 = dktJ9_newCapacity_2 := dk_seg dksJ9_newCapacity_1 23 rfl rfl
theorem dJ9_newCapacity_0 : decode cJ9_newCapacity 0 = .ok (.aload_n 0, 1) := dk_42 (dk_at dksJ9_newCapacity_0 0 rfl rfl)
theorem dJ9_newCapacity_1 : decode cJ9_newCapacity 1 = .ok (.getfield 15, 3) := dk_180 0 15 (dk_at dksJ9_newCapacity_0 1 rfl rfl)
theorem dJ9_newCapacity_4 : decode cJ9_newCapacity 4 = .ok (.arraylength, 1) := dk_190 (dk_at dksJ9_newCapacity_0 4 rfl rfl)
theorem dJ9_newCapacity_5 : decode cJ9_newCapacity 5 = .ok (.istore_n 2, 1) := dk_61 (dk_at dksJ9_newCapacity_0 5 rfl rfl)
theorem dJ9_newCapacity_6 : decode cJ9_newCapacity 6 = .ok (.iload_n 1, 1) := dk_27 (dk_at dksJ9_newCapacity_0 6 rfl rfl)
theorem dJ9_newCapacity_7 : decode cJ9_newCapacity 7 = .ok (.aload_n 0, 1) := dk_42 (dk_at dksJ9_newCapacity_0 7 rfl rfl)
theorem dJ9_newCapacity_8 : decode cJ9_newCapacity 8 = .ok (.getfield 22, 3) := dk_180 0 22 (dk_at dksJ9_newCapacity_0 8 rfl rfl)
theorem dJ9_newCapacity_11 : decode cJ9_newCapacity 11 = .ok (.ishl, 1) := dk_120 (dk_at dksJ9_newCapacity_0 11 rfl rfl)
theorem dJ9_newCapacity_12 : decode cJ9_newCapacity 12 = .ok (.istore_n 3, 1) := dk_62 (dk_at dksJ9_newCapacity_0 12 rfl rfl)
theorem dJ9_newCapacity_13 : decode cJ9_newCapacity 13 = .ok (.iload_n 3, 1) := dk_29 (dk_at dksJ9_newCapacity_0 13 rfl rfl)
theorem dJ9_newCapacity_14 : decode cJ9_newCapacity 14 = .ok (.iload_n 2, 1) := dk_28 (dk_at dksJ9_newCapacity_0 14 rfl rfl)
theorem dJ9_newCapacity_15 : decode cJ9_newCapacity 15 = .ok (.isub, 1) := dk_100 (dk_at dksJ9_newCapacity_0 15 rfl rfl)
theorem dJ9_newCapacity_16 : decode cJ9_newCapacity 16 = .ok (.istore 4, 2) := dk_54 4 (dk_at dksJ9_newCapacity_0 16 rfl rfl)
theorem dJ9_newCapacity_18 : decode cJ9_newCapacity 18 = .ok (.iload_n 2, 1) := dk_28 (dk_at dksJ9_newCapacity_0 18 rfl rfl)
theorem dJ9_newCapacity_19 : decode cJ9_newCapacity 19 = .ok (.iload 4, 2) := dk_21 4 (dk_at dksJ9_newCapacity_0 19 rfl rfl)
theorem dJ9_newCapacity_21 : decode cJ9_newCapacity 21 = .ok (.iload_n 2, 1) := dk_28 (dk_at dksJ9_newCapacity_0 21 rfl rfl)
theorem dJ9_newCapacity_22 : decode cJ9_newCapacity 22 = .ok (.iconst 2, 1) := dk_5 (dk_at dksJ9_newCapacity_0 22 rfl rfl)
theorem dJ9_newCapacity_23 : decode cJ9_newCapacity 23 = .ok (.aload_n 0, 1) := dk_42 (dk_at dksJ9_newCapacity_0 23 rfl rfl)
theorem dJ9_newCapacity_24 : decode cJ9_newCapacity 24 = .ok (.getfield 22, 3) := dk_180 0 22 (dk_at dksJ9_newCapacity_1 0 rfl rfl)
theorem dJ9_newCapacity_27 : decode cJ9_newCapacity 27 = .ok (.ishl, 1) := dk_120 (dk_at dksJ9_newCapacity_1 3 rfl rfl)
theorem dJ9_newCapacity_28 : decode cJ9_newCapacity 28 = .ok (.iadd, 1) := dk_96 (dk_at dksJ9_newCapacity_1 4 rfl rfl)
theorem dJ9_newCapacity_29 : decode cJ9_newCapacity 29 = .ok (.invokestatic 114, 3) := dk_184 0 114 (dk_at dksJ9_newCapacity_1 5 rfl rfl)
theorem dJ9_newCapacity_32 : decode cJ9_newCapacity 32 = .ok (.istore 5, 2) := dk_54 5 (dk_at dksJ9_newCapacity_1 8 rfl rfl)
theorem dJ9_newCapacity_34 : decode cJ9_newCapacity 34 = .ok (.iload 5, 2) := dk_21 5 (dk_at dksJ9_newCapacity_1 10 rfl rfl)
theorem dJ9_newCapacity_36 : decode cJ9_newCapacity 36 = .ok (.ldc 39, 2) := dk_18 39 (dk_at dksJ9_newCapacity_1 12 rfl rfl)
theorem dJ9_newCapacity_38 : decode cJ9_newCapacity 38 = .ok (.if_icmp .ne 13, 3) := dk_160 0 13 (dk_at dksJ9_newCapacity_1 14 rfl rfl)
theorem dJ9_newCapacity_41 : decode cJ9_newCapacity 41 = .ok (.new 120, 3) := dk_187 0 120 (dk_at dksJ9_newCapacity_1 17 rfl rfl)
theorem dJ9_newCapacity_44 : decode cJ9_newCapacity 44 = .ok (.dup, 1) := dk_89 (dk_at dksJ9_newCapacity_1 20 rfl rfl)
theorem dJ9_newCapacity_45 : decode cJ9_newCapacity 45 = .ok (.ldc 122, 2) := dk_18 122 (dk_at dksJ9_newCapacity_1 21 rfl rfl)
theorem dJ9_newCapacity_47 : decode cJ9_newCapacity 47 = .ok (.invokespecial 124, 3) := dk_183 0 124 (dk_at dksJ9_newCapacity_2 0 rfl rfl)
theorem dJ9_newCapacity_50 : decode cJ9_newCapacity 50 = .ok (.athrow, 1) := dk_191 (dk_at dksJ9_newCapacity_2 3 rfl rfl)
theorem dJ9_newCapacity_51 : decode cJ9_newCapacity 51 = .ok (.iload 5, 2) := dk_21 5 (dk_at dksJ9_newCapacity_2 4 rfl rfl)
theorem dJ9_newCapacity_53 : decode cJ9_newCapacity 53 = .ok (.aload_n 0, 1) := dk_42 (dk_at dksJ9_newCapacity_2 6 rfl rfl)
theorem dJ9_newCapacity_54 : decode cJ9_newCapacity 54 = .ok (.getfield 22, 3) := dk_180 0 22 (dk_at dksJ9_newCapacity_2 7 rfl rfl)
theorem dJ9_newCapacity_57 : decode cJ9_newCapacity 57 = .ok (.ishr, 1) := dk_122 (dk_at dksJ9_newCapacity_2 10 rfl rfl)
theorem dJ9_newCapacity_58 : decode cJ9_newCapacity 58 = .ok (.ireturn, 1) := dk_172 (dk_at dksJ9_newCapacity_2 11 rfl rfl)
/-- java/lang/AbstractStringBuilder.newCapacity(I)I -/
def zb334 (G : zPg) (C : zO) (args : List Value) (Q : zQ) (Y : zY) (σ : zS) : Prop := ∃ (a0 : Nat) (x1 : Int32), args = [.ref a0, .int x1] ∧ (zgR σ (some a0) 8 0 (fun v1 => zln σ 2 v1 (fun v11 => zgI σ (some a0) 8 1 (fun v13 => zgI σ (some a0) 8 1 (fun v19 => zcl C 395 [.int v11, .int ((x1 <<< (v13 &&& 31)) - v11), .int (v11 + ((2 : Int32) <<< (v19 &&& 31)))] Y σ (zqI (fun v25 s26 => ((¬ v25 = (2147483647 : Int32)) → zgI s26 (some a0) 8 1 (fun v29 => Q (some (.int (v25 >>> (v29 &&& 31)))) s26)) ∧ ((v25 = (2147483647 : Int32)) → False))))))))
set_option maxHeartbeats 4000000 in
theorem wk334 {l : Launch} {g : zG} {d : Nat} {C : zO} (hG : zGk g) (hC : zSound l g d C) {args : List Value} {Q : zQ} {Y : zY} {σ : zS} (hw : zb334 (zpg g) C args Q Y σ) : zMet l g (d + 1) (⟨"java/lang/AbstractStringBuilder", "newCapacity", "(I)I"⟩, Cond.code ⟨"java/lang/AbstractStringBuilder", "newCapacity", "(I)I"⟩ prog_30_method_10_code 6 (Option.some FieldType.int)) args σ Q Y := by
  obtain ⟨a0, x1, rfl, hw⟩ := hw
  refine zof hG (by decide +kernel) [false, false] ⟨rfl, rfl, trivial⟩ (Nat.le_of_ble_eq_true rfl) (ls := [some (va_rf (some a0)), some (.int x1), none, none, none, none]) rfl ?_
  intro X hX hR hTb hd1 hd2 hl hg hnm
  subst hl
  subst hg
  have hd : zDep X d := ⟨hd1, hd2⟩
  refine z_aload_n hX dJ9_newCapacity_0 rfl (i := 0) rfl ?_
  obtain ⟨a2, f3, v1, r4, m5, e6, hw⟩ := hw
  refine z_get hX zc8 (k := 0) dJ9_newCapacity_1 (Nat.le_of_ble_eq_true rfl) (zlk hX q1111) r4 m5 e6 ?_
  obtain ⟨a7, n8, r9, m10, hw⟩ := hw
  refine z_alen hX 2 dJ9_newCapacity_4 r9 m10 ?_
  revert hw
  generalize nI n8.1 = v11
  intro hw
  refine z_istore_n hX dJ9_newCapacity_5 rfl (i := 2) (Nat.le_of_ble_eq_true rfl) rfl (ls2 := [some (va_rf (some a0)), some (.int x1), some (.int v11), none, none, none]) rfl ?_
  refine z_iload_n hX dJ9_newCapacity_6 rfl (i := 1) rfl ?_
  refine z_aload_n hX dJ9_newCapacity_7 rfl (i := 0) rfl ?_
  obtain ⟨a14, f15, v13, r16, m17, e18, hw⟩ := hw
  refine z_get hX zc8 (k := 1) dJ9_newCapacity_8 (Nat.le_of_ble_eq_true rfl) (zlk hX q1112) r16 m17 e18 ?_
  refine z_ishl hX dJ9_newCapacity_11 ?_
  refine z_istore_n hX dJ9_newCapacity_12 rfl (i := 3) (Nat.le_of_ble_eq_true rfl) rfl (ls2 := [some (va_rf (some a0)), some (.int x1), some (.int v11), some (.int (x1 <<< (v13 &&& 31))), none, none]) rfl ?_
  refine z_iload_n hX dJ9_newCapacity_13 rfl (i := 3) rfl ?_
  refine z_iload_n hX dJ9_newCapacity_14 rfl (i := 2) rfl ?_
  refine z_isub hX dJ9_newCapacity_15 ?_
  refine z_istore hX dJ9_newCapacity_16 (i := 4) (Nat.le_of_ble_eq_true rfl) rfl (ls2 := [some (va_rf (some a0)), some (.int x1), some (.int v11), some (.int (x1 <<< (v13 &&& 31))), some (.int ((x1 <<< (v13 &&& 31)) - v11)), none]) rfl ?_
  refine z_iload_n hX dJ9_newCapacity_18 rfl (i := 2) rfl ?_
  refine z_iload hX dJ9_newCapacity_19 (i := 4) rfl ?_
  refine z_iload_n hX dJ9_newCapacity_21 rfl (i := 2) rfl ?_
  refine z_iconst hX (v := (2 : Int32)) dJ9_newCapacity_22 (by decide) ?_
  refine z_aload_n hX dJ9_newCapacity_23 rfl (i := 0) rfl ?_
  obtain ⟨a20, f21, v19, r22, m23, e24, hw⟩ := hw
  refine z_get hX zc8 (k := 1) dJ9_newCapacity_24 (Nat.le_of_ble_eq_true rfl) (zlk hX q1112) r22 m23 e24 ?_
  refine z_ishl hX dJ9_newCapacity_27 ?_
  refine z_iadd hX dJ9_newCapacity_28 ?_
  refine z_invS hX hd dJ9_newCapacity_29 (hC 395 _ zm395 _ _ _ _ hw) q1150 q781 zh19 q782 q148 zn395 rfl (Nat.le_of_ble_eq_true rfl) (st := []) rfl (zcs8 (Nat.le_of_ble_eq_true rfl)) rfl (zkI (fun v25 s26 hw => ?_)) (zout hX hR hTb)
  refine z_istore hX dJ9_newCapacity_32 (i := 5) (Nat.le_of_ble_eq_true rfl) rfl (ls2 := [some (va_rf (some a0)), some (.int x1), some (.int v11), some (.int (x1 <<< (v13 &&& 31))), some (.int ((x1 <<< (v13 &&& 31)) - v11)), some (.int v25)]) rfl ?_
  refine z_iload hX dJ9_newCapacity_34 (i := 5) rfl ?_
  refine z_ldc hX dJ9_newCapacity_36 q1151 ?_
  refine z_icmp_ne hX dJ9_newCapacity_38 (tgt := 51) rfl (fun c28 => ?_) (fun c28 => ?_)
  · have hw := hw.1 c28
    refine z_iload hX dJ9_newCapacity_51 (i := 5) rfl ?_
    refine z_aload_n hX dJ9_newCapacity_53 rfl (i := 0) rfl ?_
    obtain ⟨a30, f31, v29, r32, m33, e34, hw⟩ := hw
    refine z_get hX zc8 (k := 1) dJ9_newCapacity_54 (Nat.le_of_ble_eq_true rfl) (zlk hX q1112) r32 m33 e34 ?_
    refine z_ishr hX dJ9_newCapacity_57 ?_
    exact z_ireturn hX hR dJ9_newCapacity_58 rfl hw
  · have hw := hw.2 c28
    exact hw.elim
abbrev cJ9_isLatin1 : ByteArray := prog_30_method_68_code
def yJ9_isLatin1 : MethodName := ⟨RJ9, "isLatin1", "()Z"⟩
def dkwJ9_isLatin1_0 : List UInt8 := [178, 0, 18, 153, 0, 14, 42, 180, 0, 22, 154, 0, 7, 4, 167, 0, 4, 3, 172]
abbrev dktJ9_isLatin1_0 : List UInt8 := dkwJ9_isLatin1_0 ++ []
theorem dksJ9_isLatin1_0 : cJ9_isLatin1.data.toList.drop 0 = dktJ9_isLatin1_0 := by decide +kernel
theorem dJ9_isLatin1_0 : decode cJ9_isLatin1 0 = .ok (.getstatic 18, 3) := dk_178 0 18 (dk_at dksJ9_isLatin1_0 0 rfl rfl)
theorem dJ9_isLatin1_3 : decode cJ9_isLatin1 3 = .ok (.ifCond .eq 14, 3) := dk_153 0 14 (dk_at dksJ9_isLatin1_0 3 rfl rfl)
theorem dJ9_isLatin1_6 : decode cJ9_isLatin1 6 = .ok (.aload_n 0, 1) := dk_42 (dk_at dksJ9_isLatin1_0 6 rfl rfl)
theorem dJ9_isLatin1_7 : decode cJ9_isLatin1 7 = .ok (.getfield 22, 3) := dk_180 0 22 (dk_at dksJ9_isLatin1_0 7 rfl rfl)
theorem dJ9_isLatin1_10 : decode cJ9_isLatin1 10 = .ok (.ifCond .ne 7, 3) := dk_154 0 7 (dk_at dksJ9_isLatin1_0 10 rfl rfl)
theorem dJ9_isLatin1_13 : decode cJ9_isLatin1 13 = .ok (.iconst 1, 1) := dk_4 (dk_at dksJ9_isLatin1_0 13 rfl rfl)
theorem dJ9_isLatin1_14 : decode cJ9_isLatin1 14 = .ok (.goto 4, 3) := dk_167 0 4 (dk_at dksJ9_isLatin1_0 14 rfl rfl)
theorem dJ9_isLatin1_17 : decode cJ9_isLatin1 17 = .ok (.iconst 0, 1) := dk_3 (dk_at dksJ9_isLatin1_0 17 rfl rfl)
theorem dJ9_isLatin1_18 : decode cJ9_isLatin1 18 = .ok (.ireturn, 1) := dk_172 (dk_at dksJ9_isLatin1_0 18 rfl rfl)
/-- java/lang/AbstractStringBuilder.isLatin1()Z -/
def zb335 (G : zPg) (C : zO) (args : List Value) (Q : zQ) (Y : zY) (σ : zS) : Prop := ∃ (a0 : Nat), args = [.ref a0] ∧ (zJ (fun (p1 : Int32) (s2 : zS) => zbool p1 ∧ Q (some (.int p1)) s2) (fun (j3 : Int32 → zS → Prop) => zJ (fun  (s4 : zS) => j3 (0 : Int32) s4) (fun (j5 : zS → Prop) => (((1 : Int32) = 0) → j5 σ) ∧ ((¬ (1 : Int32) = 0) → zgI σ (some a0) 8 1 (fun v7 => ((¬ v7 = 0) → j5 σ) ∧ ((v7 = 0) → j3 (1 : Int32) σ))))))
set_option maxHeartbeats 4000000 in
theorem wk335 {l : Launch} {g : zG} {d : Nat} {C : zO} (hG : zGk g) (hC : zSound l g d C) {args : List Value} {Q : zQ} {Y : zY} {σ : zS} (hw : zb335 (zpg g) C args Q Y σ) : zMet l g (d + 1) (⟨"java/lang/AbstractStringBuilder", "isLatin1", "()Z"⟩, Cond.code ⟨"java/lang/AbstractStringBuilder", "isLatin1", "()Z"⟩ prog_30_method_68_code 1 (Option.some FieldType.boolean)) args σ Q Y := by
  obtain ⟨a0, rfl, hw⟩ := hw
  refine zof hG (by decide +kernel) [false] ⟨rfl, trivial⟩ (Nat.le_of_ble_eq_true rfl) (ls := [some (va_rf (some a0))]) rfl ?_
  intro X hX hR hTb hd1 hd2 hl hg hnm
  subst hl
  subst hg
  have hd : zDep X d := ⟨hd1, hd2⟩
  refine z_gets hX dJ9_isLatin1_0 (List.mem_of_getElem? (i := 11) rfl) q1103 rfl ?_
  show zW _ _ _ _ (.int (1 : Int32) :: _)
  refine zJ_w (P := fun (j : Int32 → zS → Prop) => ∀ (p1 : Int32) (s2 : zS), j p1 s2 → zW X s2 18 [none] [.int p1]) hw (fun p1 s2 hw => ?_) (fun j3 hj3 hw => ?_)
  · exact z_ireturn hX hR dJ9_isLatin1_18 (zn_z hw.1) hw.2
  · refine zJ_w (P := fun (j : zS → Prop) => ∀  (s4 : zS), j  s4 → zW X s4 17 [none] []) hw (fun  s4 hw => ?_) (fun j5 hj5 hw => ?_)
    · refine z_iconst hX (v := (0 : Int32)) dJ9_isLatin1_17 (by decide) ?_
      exact hj3 _ _ hw
    · refine z_if_eq hX dJ9_isLatin1_3 (tgt := 17) rfl (fun c6 => ?_) (fun c6 => ?_)
      · have hw := hw.1 c6
        refine z_sub (ls' := [none]) (zsN (zs0)) ?_
        exact hj5  _ hw
      · have hw := hw.2 c6
        refine z_aload_n hX dJ9_isLatin1_6 rfl (i := 0) rfl ?_
        obtain ⟨a8, f9, v7, r10, m11, e12, hw⟩ := hw
        refine z_get hX zc8 (k := 1) dJ9_isLatin1_7 (Nat.le_of_ble_eq_true rfl) (zlk hX q1112) r10 m11 e12 ?_
        refine z_if_ne hX dJ9_isLatin1_10 (tgt := 17) rfl (fun c13 => ?_) (fun c13 => ?_)
        · have hw := hw.1 c13
          refine z_sub (ls' := [none]) (zsN (zs0)) ?_
          exact hj5  _ hw
        · have hw := hw.2 c13
          refine z_iconst hX (v := (1 : Int32)) dJ9_isLatin1_13 (by decide) ?_
          refine z_goto hX dJ9_isLatin1_14 (tgt := 18) rfl ?_
          refine z_sub (ls' := [none]) (zsN (zs0)) ?_
          exact hj3 _ _ hw
abbrev cJ9_append : ByteArray := prog_30_method_22_code
def yJ9_append : MethodName := ⟨RJ9, "append", "(Ljava/lang/String;)Ljava/lang/AbstractStringBuilder;"⟩
def dkwJ9_append_1 : List UInt8 := [42, 42, 180, 0, 79, 43, 182, 0, 208, 42, 89, 180, 0, 79, 28, 96, 181, 0, 79, 42, 176]
abbrev dktJ9_append_1 : List UInt8 := dkwJ9_append_1 ++ []
def dkwJ9_append_0 : List UInt8 := [43, 199, 0, 8, 42, 182, 0, 204, 176, 43, 182, 0, 32, 61, 42, 42, 180, 0, 79, 28, 96, 182, 0, 100]
abbrev dktJ9_append_0 : List UInt8 := dkwJ9_append_0 ++ dktJ9_append_1
theorem dksJ9_append_0 : cJ9_append.data.toList.drop 0 = dktJ9_append_0 := by decide +kernel
theorem dksJ9_append_1 : cJ9_append.data.toList.drop 24 = dktJ9_append_1 := dk_seg dksJ9_append_0 24 rfl rfl
theorem dJ9_append_0 : decode cJ9_append 0 = .ok (.aload_n 1, 1) := dk_43 (dk_at dksJ9_append_0 0 rfl rfl)
theorem dJ9_append_1 : decode cJ9_append 1 = .ok (.ifnonnull 8, 3) := dk_199 0 8 (dk_at dksJ9_append_0 1 rfl rfl)
theorem dJ9_append_4 : decode cJ9_append 4 = .ok (.aload_n 0, 1) := dk_42 (dk_at dksJ9_append_0 4 rfl rfl)
theorem dJ9_append_5 : decode cJ9_append 5 = .ok (.invokevirtual 204, 3) := dk_182 0 204 (dk_at dksJ9_append_0 5 rfl rfl)
theorem dJ9_append_8 : decode cJ9_append 8 = .ok (.areturn, 1) := dk_176 (dk_at dksJ9_append_0 8 rfl rfl)
theorem dJ9_append_9 : decode cJ9_append 9 = .ok (.aload_n 1, 1) := dk_43 (dk_at dksJ9_append_0 9 rfl rfl)
theorem dJ9_append_10 : decode cJ9_append 10 = .ok (.invokevirtual 32, 3) := dk_182 0 32 (dk_at dksJ9_append_0 10 rfl rfl)
theorem dJ9_append_13 : decode cJ9_append 13 = .ok (.istore_n 2, 1) := dk_61 (dk_at dksJ9_append_0 13 rfl rfl)
theorem dJ9_append_14 : decode cJ9_append 14 = .ok (.aload_n 0, 1) := dk_42 (dk_at dksJ9_append_0 14 rfl rfl)
theorem dJ9_append_15 : decode cJ9_append 15 = .ok (.aload_n 0, 1) := dk_42 (dk_at dksJ9_append_0 15 rfl rfl)
theorem dJ9_append_16 : decode cJ9_append 16 = .ok (.getfield 79, 3) := dk_180 0 79 (dk_at dksJ9_append_0 16 rfl rfl)
theorem dJ9_append_19 : decode cJ9_append 19 = .ok (.iload_n 2, 1) := dk_28 (dk_at dksJ9_append_0 19 rfl rfl)
theorem dJ9_append_20 : decode cJ9_append 20 = .ok (.iadd, 1) := dk_96 (dk_at dksJ9_append_0 20 rfl rfl)
theorem dJ9_append_21 : decode cJ9_append 21 = .ok (.invokevirtual 100, 3) := dk_182 0 100 (dk_at dksJ9_append_0 21 rfl rfl)
theorem dJ9_append_24 : decode cJ9_append 24 = .ok (.aload_n 0, 1) := dk_42 (dk_at dksJ9_append_1 0 rfl rfl)
theorem dJ9_append_25 : decode cJ9_append 25 = .ok (.aload_n 0, 1) := dk_42 (dk_at dksJ9_append_1 1 rfl rfl)
theorem dJ9_append_26 : decode cJ9_append 26 = .ok (.getfield 79, 3) := dk_180 0 79 (dk_at dksJ9_append_1 2 rfl rfl)
theorem dJ9_append_29 : decode cJ9_append 29 = .ok (.aload_n 1, 1) := dk_43 (dk_at dksJ9_append_1 5 rfl rfl)
theorem dJ9_append_30 : decode cJ9_append 30 = .ok (.invokevirtual 208, 3) := dk_182 0 208 (dk_at dksJ9_append_1 6 rfl rfl)
theorem dJ9_append_33 : decode cJ9_append 33 = .ok (.aload_n 0, 1) := dk_42 (dk_at dksJ9_append_1 9 rfl rfl)
theorem dJ9_append_34 : decode cJ9_append 34 = .ok (.dup, 1) := dk_89 (dk_at dksJ9_append_1 10 rfl rfl)
theorem dJ9_append_35 : decode cJ9_append 35 = .ok (.getfield 79, 3) := dk_180 0 79 (dk_at dksJ9_append_1 11 rfl rfl)
theorem dJ9_append_38 : decode cJ9_append 38 = .ok (.iload_n 2, 1) := dk_28 (dk_at dksJ9_append_1 14 rfl rfl)
theorem dJ9_append_39 : decode cJ9_append 39 = .ok (.iadd, 1) := dk_96 (dk_at dksJ9_append_1 15 rfl rfl)
theorem dJ9_append_40 : decode cJ9_append 40 = .ok (.putfield 79, 3) := dk_181 0 79 (dk_at dksJ9_append_1 16 rfl rfl)
theorem dJ9_append_43 : decode cJ9_append 43 = .ok (.aload_n 0, 1) := dk_42 (dk_at dksJ9_append_1 19 rfl rfl)
theorem dJ9_append_44 : decode cJ9_append 44 = .ok (.areturn, 1) := dk_176 (dk_at dksJ9_append_1 20 rfl rfl)
/-- java/lang/AbstractStringBuilder.append(Ljava/lang/String;)Ljava/lang/AbstractStringBuilder; -/
def zb336 (G : zPg) (C : zO) (args : List Value) (Q : zQ) (Y : zY) (σ : zS) : Prop := ∃ (a0 : Nat) (x1 : Option Nat), args = [.ref a0, va_rf x1] ∧ (((¬ x1 = none) → zrc σ x1 9 (fun a5 => zcl C 355 [.ref a5] Y σ (zqI (fun v2 s3 => zgI s3 (some a0) 8 3 (fun v9 => zrc s3 (some a0) 8 (fun a18 => zcl C 333 [.ref a18, .int (v9 + v2)] Y s3 (zqV (fun s16 => zgI s16 (some a0) 8 3 (fun v22 => zrc s16 (some a0) 8 (fun a31 => zcl C 338 [.ref a31, .int v22, va_rf x1] Y s16 (zqV (fun s29 => zgI s29 (some a0) 8 3 (fun v35 => zput s29 G.1 (some a0) 8 3 (.int (v35 + v2)) (fun s41 => Q (some (va_rf (some a0))) s41)))))))))))))) ∧ ((x1 = none) → zrc σ (some a0) 8 (fun a52 => zcl C 337 [.ref a52] Y σ (zqR (fun v49 s50 => Q (some (va_rf v49)) s50)))))
set_option maxHeartbeats 4000000 in
theorem wk336 {l : Launch} {g : zG} {d : Nat} {C : zO} (hG : zGk g) (hC : zSound l g d C) {args : List Value} {Q : zQ} {Y : zY} {σ : zS} (hw : zb336 (zpg g) C args Q Y σ) : zMet l g (d + 1) (⟨"java/lang/AbstractStringBuilder", "append", "(Ljava/lang/String;)Ljava/lang/AbstractStringBuilder;"⟩, Cond.code ⟨"java/lang/AbstractStringBuilder", "append", "(Ljava/lang/String;)Ljava/lang/AbstractStringBuilder;"⟩ prog_30_method_22_code 3 (Option.some (FieldType.object "java/lang/AbstractStringBuilder"))) args σ Q Y := by
  obtain ⟨a0, x1, rfl, hw⟩ := hw
  refine zof hG (by decide +kernel) [false, false] ⟨rfl, (zc_rf _), trivial⟩ (Nat.le_of_ble_eq_true rfl) (ls := [some (va_rf (some a0)), some (va_rf x1), none]) rfl ?_
  intro X hX hR hTb hd1 hd2 hl hg hnm
  subst hl
  subst hg
  have hd : zDep X d := ⟨hd1, hd2⟩
  refine z_aload_n hX dJ9_append_0 rfl (i := 1) rfl ?_
  refine z_ifnonnull hX dJ9_append_1 (tgt := 9) rfl (fun c1 => ?_) (fun c1 => ?_)
  · have hw := hw.1 c1
    refine z_aload_n hX dJ9_append_9 rfl (i := 1) rfl ?_
    obtain ⟨a5, f6, r7, m8, hw⟩ := hw
    refine z_invV hX hd r7 (ci := 9) rfl rfl m8 dJ9_append_10 (hC 355 _ zm355 _ _ _ _ hw) q1206 q1005 q1006 zh17 q1007 q146 zn355 rfl (Nat.le_of_ble_eq_true rfl) (st := []) rfl (zcs8 (Nat.le_of_ble_eq_true rfl)) rfl (zkI (fun v2 s3 hw => ?_)) (zout hX hR hTb)
    refine z_istore_n hX dJ9_append_13 rfl (i := 2) (Nat.le_of_ble_eq_true rfl) (zc_rf _) (ls2 := [some (va_rf (some a0)), some (va_rf x1), some (.int v2)]) rfl ?_
    refine z_aload_n hX dJ9_append_14 rfl (i := 0) rfl ?_
    refine z_aload_n hX dJ9_append_15 rfl (i := 0) rfl ?_
    obtain ⟨a10, f11, v9, r12, m13, e14, hw⟩ := hw
    refine z_get hX zc8 (k := 3) dJ9_append_16 (Nat.le_of_ble_eq_true rfl) (zlk hX q1115) r12 m13 e14 ?_
    refine z_iload_n hX dJ9_append_19 rfl (i := 2) rfl ?_
    refine z_iadd hX dJ9_append_20 ?_
    obtain ⟨a18, f19, r20, m21, hw⟩ := hw
    refine z_invVP hX hd r20 (ci := 8) rfl rfl m21 dJ9_append_21 (hC 333 _ zm333 _ _ _ _ hw) q1142 q1144 (z_selP hX (ci := 8) rfl q1143 q1144 zh15 q1165 rfl) zh15 q1145 q144 zn333 rfl (Nat.le_of_ble_eq_true rfl) (st := []) rfl (zcs8 (Nat.le_of_ble_eq_true rfl)) rfl (zkV (fun s16 hw => ?_)) (zout hX hR hTb)
    refine z_aload_n hX dJ9_append_24 rfl (i := 0) rfl ?_
    refine z_aload_n hX dJ9_append_25 rfl (i := 0) rfl ?_
    obtain ⟨a23, f24, v22, r25, m26, e27, hw⟩ := hw
    refine z_get hX zc8 (k := 3) dJ9_append_26 (Nat.le_of_ble_eq_true rfl) (zlk hX q1115) r25 m26 e27 ?_
    refine z_aload_n hX dJ9_append_29 rfl (i := 1) rfl ?_
    obtain ⟨a31, f32, r33, m34, hw⟩ := hw
    refine z_invVP hX hd r33 (ci := 8) rfl rfl m34 dJ9_append_30 (hC 338 _ zm338 _ _ _ _ hw) q1207 q1209 (z_selP hX (ci := 8) rfl q1208 q1209 zh15 q1165 rfl) zh15 q1210 q144 zn338 rfl (Nat.le_of_ble_eq_true rfl) (st := []) rfl (zcs8 (Nat.le_of_ble_eq_true rfl)) rfl (zkV (fun s29 hw => ?_)) (zout hX hR hTb)
    refine z_aload_n hX dJ9_append_33 rfl (i := 0) rfl ?_
    refine z_dup hX dJ9_append_34 (zc_rf _) ?_
    obtain ⟨a36, f37, v35, r38, m39, e40, hw⟩ := hw
    refine z_get hX zc8 (k := 3) dJ9_append_35 (Nat.le_of_ble_eq_true rfl) (zlk hX q1115) r38 m39 e40 ?_
    refine z_iload_n hX dJ9_append_38 rfl (i := 2) rfl ?_
    refine z_iadd hX dJ9_append_39 ?_
    obtain ⟨a43, f44, r45, g46, m47, l48, hw⟩ := hw
    refine z_put hX zc8 (k := 3) dJ9_append_40 (Nat.le_of_ble_eq_true rfl) (zlk hX q1115) rfl rfl rfl r45 g46 m47 l48 (z_nm (fun s41 e42 => ?_))
    have hw := hw s41 e42
    refine z_aload_n hX dJ9_append_43 rfl (i := 0) rfl ?_
    exact z_areturn hX hR dJ9_append_44 (Or.inl ⟨_, rfl⟩) hw
  · have hw := hw.2 c1
    refine z_aload_n hX dJ9_append_4 rfl (i := 0) rfl ?_
    obtain ⟨a52, f53, r54, m55, hw⟩ := hw
    refine z_invVP hX hd r54 (ci := 8) rfl rfl m55 dJ9_append_5 (hC 337 _ zm337 _ _ _ _ hw) q1187 q1189 (z_selP hX (ci := 8) rfl q1188 q1189 zh15 q1165 rfl) zh15 q1190 q144 zn337 rfl (Nat.le_of_ble_eq_true rfl) (st := []) rfl (zcs8 (Nat.le_of_ble_eq_true rfl)) rfl (zkR (fun v49 s50 hw => ?_)) (zout hX hR hTb)
    exact z_areturn hX hR dJ9_append_8 (Or.inl ⟨_, rfl⟩) hw
