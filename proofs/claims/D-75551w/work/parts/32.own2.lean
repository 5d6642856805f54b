set_option maxRecDepth 100000
def RX8 : String := "PackingDuel$MemberError"
abbrev cX8_init : ByteArray := prog_13_method_1_code
def yX8_init : MethodName := ⟨RX8, "<init>", "()V"⟩
def dkwX8_init_0 : List UInt8 := [42, 1, 1, 3, 3, 183, 0, 1, 177]
abbrev dktX8_init_0 : List UInt8 := dkwX8_init_0 ++ []
theorem dksX8_init_0 : cX8_init.data.toList.drop 0 = dktX8_init_0 := by decide +kernel
theorem dX8_init_0 : decode cX8_init 0 = .ok (.aload_n 0, 1) := dk_42 (dk_at dksX8_init_0 0 rfl rfl)
theorem dX8_init_1 : decode cX8_init 1 = .ok (.aconst_null, 1) := dk_1 (dk_at dksX8_init_0 1 rfl rfl)
theorem dX8_init_2 : decode cX8_init 2 = .ok (.aconst_null, 1) := dk_1 (dk_at dksX8_init_0 2 rfl rfl)
theorem dX8_init_3 : decode cX8_init 3 = .ok (.iconst 0, 1) := dk_3 (dk_at dksX8_init_0 3 rfl rfl)
theorem dX8_init_4 : decode cX8_init 4 = .ok (.iconst 0, 1) := dk_3 (dk_at dksX8_init_0 4 rfl rfl)
theorem dX8_init_5 : decode cX8_init 5 = .ok (.invokespecial 1, 3) := dk_183 0 1 (dk_at dksX8_init_0 5 rfl rfl)
theorem dX8_init_8 : decode cX8_init 8 = .ok (.return_, 1) := dk_177 (dk_at dksX8_init_0 8 rfl rfl)
/-- PackingDuel$MemberError.<init>()V -/
def zb448 (G : zPg) (C : zO) (args : List Value) (Q : zQ) (Y : zY) (σ : zS) : Prop := ∃ (a0 : Nat), args = [.ref a0] ∧ ((∃ a4, (some a0) = some a4 ∧ zcl C 305 [.ref a4, va_rf none, va_rf none, .int (0 : Int32), .int (0 : Int32)] Y σ (zqV (fun s2 => Q none s2))))
set_option maxHeartbeats 4000000 in
theorem wk448 {l : Launch} {g : zG} {d : Nat} {C : zO} (hG : zGk g) (hC : zSound l g d C) {args : List Value} {Q : zQ} {Y : zY} {σ : zS} (hw : zb448 (zpg g) C args Q Y σ) : zMet l g (d + 1) (⟨"PackingDuel$MemberError", "<init>", "()V"⟩, Cond.code ⟨"PackingDuel$MemberError", "<init>", "()V"⟩ prog_13_method_1_code 1 (Option.none : Option FieldType)) args σ Q Y := by
  obtain ⟨a0, rfl, hw⟩ := hw
  refine zof hG (by decide +kernel) [false] ⟨rfl, trivial⟩ (Nat.le_of_ble_eq_true rfl) (ls := [some (va_rf (some a0))]) rfl ?_
  intro X hX hR hTb hd1 hd2 hl hg hnm
  subst hl
  subst hg
  have hd : zDep X d := ⟨hd1, hd2⟩
  refine z_aload_n hX dX8_init_0 rfl (i := 0) rfl ?_
  refine z_null hX dX8_init_1 ?_
  refine z_null hX dX8_init_2 ?_
  refine z_iconst hX (v := (0 : Int32)) dX8_init_3 (by decide) ?_
  refine z_iconst hX (v := (0 : Int32)) dX8_init_4 (by decide) ?_
  obtain ⟨a4, r5, hw⟩ := hw
  refine z_invI hX hd r5 dX8_init_5 (hC 305 _ zm305 _ _ _ _ hw) q1566 q1456 rfl zh10 q1457 q139 zn305 rfl (Nat.le_of_ble_eq_true rfl) (st := []) rfl (zcs8 (Nat.le_of_ble_eq_true rfl)) rfl (zkV (fun s2 hw => ?_)) (zout hX hR hTb)
  exact z_return hX hR dX8_init_8 hw
abbrev cX9_init : ByteArray := prog_26_method_1_code
def yX9_init : MethodName := ⟨RX9, "<init>", "()V"⟩
theorem dX9_init_0 : decode cX9_init 0 = .ok (.aload_n 0, 1) := by decide +kernel
theorem dX9_init_1 : decode cX9_init 1 = .ok (.invokespecial 1, 3) := by decide +kernel
theorem dX9_init_4 : decode cX9_init 4 = .ok (.return_, 1) := by decide +kernel
/-- PackingDuel$TwiceError.<init>()V -/
def zb449 (G : zPg) (C : zO) (args : List Value) (Q : zQ) (Y : zY) (σ : zS) : Prop := ∃ (a0 : Nat), args = [.ref a0] ∧ ((∃ a4, (some a0) = some a4 ∧ zcl C 448 [.ref a4] Y σ (zqV (fun s2 => Q none s2))))
set_option maxHeartbeats 4000000 in
theorem wk449 {l : Launch} {g : zG} {d : Nat} {C : zO} (hG : zGk g) (hC : zSound l g d C) {args : List Value} {Q : zQ} {Y : zY} {σ : zS} (hw : zb449 (zpg g) C args Q Y σ) : zMet l g (d + 1) (⟨"PackingDuel$TwiceError", "<init>", "()V"⟩, Cond.code ⟨"PackingDuel$TwiceError", "<init>", "()V"⟩ prog_26_method_1_code 1 (Option.none : Option FieldType)) args σ Q Y := by
  obtain ⟨a0, rfl, hw⟩ := hw
  refine zof hG (by decide +kernel) [false] ⟨rfl, trivial⟩ (Nat.le_of_ble_eq_true rfl) (ls := [some (va_rf (some a0))]) rfl ?_
  intro X hX hR hTb hd1 hd2 hl hg hnm
  subst hl
  subst hg
  have hd : zDep X d := ⟨hd1, hd2⟩
  refine z_aload_n hX dX9_init_0 rfl (i := 0) rfl ?_
  obtain ⟨a4, r5, hw⟩ := hw
  refine z_invI hX hd r5 dX9_init_1 (hC 448 _ zm448 _ _ _ _ hw) q1563 q1564 rfl zh28 q1565 q159 zn448 rfl (Nat.le_of_ble_eq_true rfl) (st := []) rfl (zcs8 (Nat.le_of_ble_eq_true rfl)) rfl (zkV (fun s2 hw => ?_)) (zout hX hR hTb)
  exact z_return hX hR dX9_init_4 hw
abbrev cX9_code : ByteArray := prog_26_method_2_code
def yX9_code : MethodName := ⟨RX9, "code", "()I"⟩
theorem dX9_code_0 : decode cX9_code 0 = .ok (.iconst 4, 1) := by decide +kernel
theorem dX9_code_1 : decode cX9_code 1 = .ok (.ireturn, 1) := by decide +kernel
/-- PackingDuel$TwiceError.code()I -/
def zb450 (G : zPg) (C : zO) (args : List Value) (Q : zQ) (Y : zY) (σ : zS) : Prop := ∃ (a0 : Nat), args = [.ref a0] ∧ (Q (some (.int (4 : Int32))) σ)
set_option maxHeartbeats 4000000 in
theorem wk450 {l : Launch} {g : zG} {d : Nat} {C : zO} (hG : zGk g) (hC : zSound l g d C) {args : List Value} {Q : zQ} {Y : zY} {σ : zS} (hw : zb450 (zpg g) C args Q Y σ) : zMet l g (d + 1) (⟨"PackingDuel$TwiceError", "code", "()I"⟩, Cond.code ⟨"PackingDuel$TwiceError", "code", "()I"⟩ prog_26_method_2_code 1 (Option.some FieldType.int)) args σ Q Y := by
  obtain ⟨a0, rfl, hw⟩ := hw
  refine zof hG (by decide +kernel) [false] ⟨rfl, trivial⟩ (Nat.le_of_ble_eq_true rfl) (ls := [some (va_rf (some a0))]) rfl ?_
  intro X hX hR hTb hd1 hd2 hl hg hnm
  subst hl
  subst hg
  have hd : zDep X d := ⟨hd1, hd2⟩
  refine z_iconst hX (v := (4 : Int32)) dX9_code_0 (by decide) ?_
  exact z_ireturn hX hR dX9_code_1 rfl hw
abbrev cX10_init : ByteArray := prog_21_method_1_code
def yX10_init : MethodName := ⟨RX10, "<init>", "(Ljava/util/ArrayList;)V"⟩
def dkwX10_init_3 : List UInt8 := [192, 0, 32, 180, 0, 34, 28, 46, 96, 79, 132, 3, 1, 167, 255, 201, 132, 2, 1, 167, 255, 188, 177]
abbrev dktX10_init_3 : List UInt8 := dkwX10_init_3 ++ []
def dkwX10_init_2 : List UInt8 := [180, 0, 17, 28, 50, 29, 42, 180, 0, 17, 28, 50, 29, 29, 4, 100, 126, 46, 43, 21, 4, 182, 0, 28]
abbrev dktX10_init_2 : List UInt8 := dkwX10_init_2 ++ dktX10_init_3
def dkwX10_init_1 : List UInt8 := [162, 0, 69, 4, 62, 29, 42, 180, 0, 17, 28, 50, 190, 162, 0, 50, 29, 184, 0, 22, 54, 4, 42]
abbrev dktX10_init_1 : List UInt8 := dkwX10_init_1 ++ dktX10_init_2
def dkwX10_init_0 : List UInt8 := [42, 183, 0, 3, 42, 7, 4, 43, 182, 0, 9, 120, 197, 0, 15, 2, 181, 0, 17, 3, 61, 28, 7]
abbrev dktX10_init_0 : List UInt8 := dkwX10_init_0 ++ dktX10_init_1
theorem dksX10_init_0 : cX10_init.data.toList.drop 0 = dktX10_init_0 := by decide +kernel
theorem dksX10_init_1 : cX10_init.data.toList.drop 23 = dktX10_init_1 := dk_seg dksX10_init_0 23 rfl rfl
theorem dksX10_init_2 : cX10_init.data.toList.drop 46 = dktX10_init_2 := dk_seg dksX10_init_1 23 rfl rfl
theorem dksX10_init_3 : cX10_init.data.toList.drop 70 = dktX10_init_3 := dk_seg dksX10_init_2 24 rfl rfl
theorem dX10_init_0 : decode cX10_init 0 = .ok (.aload_n 0, 1) := dk_42 (dk_at dksX10_init_0 0 rfl rfl)
theorem dX10_init_1 : decode cX10_init 1 = .ok (.invokespecial 3, 3) := dk_183 0 3 (dk_at dksX10_init_0 1 rfl rfl)
theorem dX10_init_4 : decode cX10_init 4 = .ok (.aload_n 0, 1) := dk_42 (dk_at dksX10_init_0 4 rfl rfl)
theorem dX10_init_5 : decode cX10_init 5 = .ok (.iconst 4, 1) := dk_7 (dk_at dksX10_init_0 5 rfl rfl)
theorem dX10_init_6 : decode cX10_init 6 = .ok (.iconst 1, 1) := dk_4 (dk_at dksX10_init_0 6 rfl rfl)
theorem dX10_init_7 : decode cX10_init 7 = .ok (.aload_n 1, 1) := dk_43 (dk_at dksX10_init_0 7 rfl rfl)
theorem dX10_init_8 : decode cX10_init 8 = .ok (.invokevirtual 9, 3) := dk_182 0 9 (dk_at dksX10_init_0 8 rfl rfl)
theorem dX10_init_11 : decode cX10_init 11 = .ok (.ishl, 1) := dk_120 (dk_at dksX10_init_0 11 rfl rfl)
theorem dX10_init_12 : decode cX10_init 12 = .ok (.multianewarray 15 2, 4) := by decide +kernel
theorem dX10_init_16 : decode cX10_init 16 = .ok (.putfield 17, 3) := dk_181 0 17 (dk_at dksX10_init_0 16 rfl rfl)
theorem dX10_init_19 : decode cX10_init 19 = .ok (.iconst 0, 1) := dk_3 (dk_at dksX10_init_0 19 rfl rfl)
theorem dX10_init_20 : decode cX10_init 20 = .ok (.istore_n 2, 1) := dk_61 (dk_at dksX10_init_0 20 rfl rfl)
theorem dX10_init_21 : decode cX10_init 21 = .ok (.iload_n 2, 1) := dk_28 (dk_at dksX10_init_0 21 rfl rfl)
theorem dX10_init_22 : decode cX10_init 22 = .ok (.iconst 4, 1) := dk_7 (dk_at dksX10_init_0 22 rfl rfl)
theorem dX10_init_23 : decode cX10_init 23 = .ok (.if_icmp .ge 69, 3) := dk_162 0 69 (dk_at dksX10_init_1 0 rfl rfl)
theorem dX10_init_26 : decode cX10_init 26 = .ok (.iconst 1, 1) := dk_4 (dk_at dksX10_init_1 3 rfl rfl)
theorem dX10_init_27 : decode cX10_init 27 = .ok (.istore_n 3, 1) := dk_62 (dk_at dksX10_init_1 4 rfl rfl)
theorem dX10_init_28 : decode cX10_init 28 = .ok (.iload_n 3, 1) := dk_29 (dk_at dksX10_init_1 5 rfl rfl)
theorem dX10_init_29 : decode cX10_init 29 = .ok (.aload_n 0, 1) := dk_42 (dk_at dksX10_init_1 6 rfl rfl)
theorem dX10_init_30 : decode cX10_init 30 = .ok (.getfield 17, 3) := dk_180 0 17 (dk_at dksX10_init_1 7 rfl rfl)
theorem dX10_init_33 : decode cX10_init 33 = .ok (.iload_n 2, 1) := dk_28 (dk_at dksX10_init_1 10 rfl rfl)
theorem dX10_init_34 : decode cX10_init 34 = .ok (.aaload, 1) := dk_50 (dk_at dksX10_init_1 11 rfl rfl)
theorem dX10_init_35 : decode cX10_init 35 = .ok (.arraylength, 1) := dk_190 (dk_at dksX10_init_1 12 rfl rfl)
theorem dX10_init_36 : decode cX10_init 36 = .ok (.if_icmp .ge 50, 3) := dk_162 0 50 (dk_at dksX10_init_1 13 rfl rfl)
theorem dX10_init_39 : decode cX10_init 39 = .ok (.iload_n 3, 1) := dk_29 (dk_at dksX10_init_1 16 rfl rfl)
theorem dX10_init_40 : decode cX10_init 40 = .ok (.invokestatic 22, 3) := dk_184 0 22 (dk_at dksX10_init_1 17 rfl rfl)
theorem dX10_init_43 : decode cX10_init 43 = .ok (.istore 4, 2) := dk_54 4 (dk_at dksX10_init_1 20 rfl rfl)
theorem dX10_init_45 : decode cX10_init 45 = .ok (.aload_n 0, 1) := dk_42 (dk_at dksX10_init_1 22 rfl rfl)
theorem dX10_init_46 : decode cX10_init 46 = .ok (.getfield 17, 3) := dk_180 0 17 (dk_at dksX10_init_2 0 rfl rfl)
theorem dX10_init_49 : decode cX10_init 49 = .ok (.iload_n 2, 1) := dk_28 (dk_at dksX10_init_2 3 rfl rfl)
theorem dX10_init_50 : decode cX10_init 50 = .ok (.aaload, 1) := dk_50 (dk_at dksX10_init_2 4 rfl rfl)
theorem dX10_init_51 : decode cX10_init 51 = .ok (.iload_n 3, 1) := dk_29 (dk_at dksX10_init_2 5 rfl rfl)
theorem dX10_init_52 : decode cX10_init 52 = .ok (.aload_n 0, 1) := dk_42 (dk_at dksX10_init_2 6 rfl rfl)
theorem dX10_init_53 : decode cX10_init 53 = .ok (.getfield 17, 3) := dk_180 0 17 (dk_at dksX10_init_2 7 rfl rfl)
theorem dX10_init_56 : decode cX10_init 56 = .ok (.iload_n 2, 1) := dk_28 (dk_at dksX10_init_2 10 rfl rfl)
theorem dX10_init_57 : decode cX10_init 57 = .ok (.aaload, 1) := dk_50 (dk_at dksX10_init_2 11 rfl rfl)
theorem dX10_init_58 : decode cX10_init 58 = .ok (.iload_n 3, 1) := dk_29 (dk_at dksX10_init_2 12 rfl rfl)
theorem dX10_init_59 : decode cX10_init 59 = .ok (.iload_n 3, 1) := dk_29 (dk_at dksX10_init_2 13 rfl rfl)
theorem dX10_init_60 : decode cX10_init 60 = .ok (.iconst 1, 1) := dk_4 (dk_at dksX10_init_2 14 rfl rfl)
theorem dX10_init_61 : decode cX10_init 61 = .ok (.isub, 1) := dk_100 (dk_at dksX10_init_2 15 rfl rfl)
theorem dX10_init_62 : decode cX10_init 62 = .ok (.iand, 1) := dk_126 (dk_at dksX10_init_2 16 rfl rfl)
theorem dX10_init_63 : decode cX10_init 63 = .ok (.iaload, 1) := dk_46 (dk_at dksX10_init_2 17 rfl rfl)
theorem dX10_init_64 : decode cX10_init 64 = .ok (.aload_n 1, 1) := dk_43 (dk_at dksX10_init_2 18 rfl rfl)
theorem dX10_init_65 : decode cX10_init 65 = .ok (.iload 4, 2) := dk_21 4 (dk_at dksX10_init_2 19 rfl rfl)
theorem dX10_init_67 : decode cX10_init 67 = .ok (.invokevirtual 28, 3) := dk_182 0 28 (dk_at dksX10_init_2 21 rfl rfl)
theorem dX10_init_70 : decode cX10_init 70 = .ok (.checkcast 32, 3) := dk_192 0 32 (dk_at dksX10_init_3 0 rfl rfl)
theorem dX10_init_73 : decode cX10_init 73 = .ok (.getfield 34, 3) := dk_180 0 34 (dk_at dksX10_init_3 3 rfl rfl)
theorem dX10_init_76 : decode cX10_init 76 = .ok (.iload_n 2, 1) := dk_28 (dk_at dksX10_init_3 6 rfl rfl)
theorem dX10_init_77 : decode cX10_init 77 = .ok (.iaload, 1) := dk_46 (dk_at dksX10_init_3 7 rfl rfl)
theorem dX10_init_78 : decode cX10_init 78 = .ok (.iadd, 1) := dk_96 (dk_at dksX10_init_3 8 rfl rfl)
theorem dX10_init_79 : decode cX10_init 79 = .ok (.iastore, 1) := dk_79 (dk_at dksX10_init_3 9 rfl rfl)
theorem dX10_init_80 : decode cX10_init 80 = .ok (.iinc 3 1, 3) := dk_132 3 1 (dk_at dksX10_init_3 10 rfl rfl)
theorem dX10_init_83 : decode cX10_init 83 = .ok (.goto (-55), 3) := dk_167 255 201 (dk_at dksX10_init_3 13 rfl rfl)
theorem dX10_init_86 : decode cX10_init 86 = .ok (.iinc 2 1, 3) := dk_132 2 1 (dk_at dksX10_init_3 16 rfl rfl)
theorem dX10_init_89 : decode cX10_init 89 = .ok (.goto (-68), 3) := dk_167 255 188 (dk_at dksX10_init_3 19 rfl rfl)
theorem dX10_init_92 : decode cX10_init 92 = .ok (.return_, 1) := dk_177 (dk_at dksX10_init_3 22 rfl rfl)
/-- PackingDuel$Sums.<init>(Ljava/util/ArrayList;)V -/
def zb451 (G : zPg) (C : zO) (args : List Value) (Q : zQ) (Y : zY) (σ : zS) : Prop := ∃ (a0 : Nat) (x1 : Option Nat), args = [.ref a0, va_rf x1] ∧ ((∃ a1, (some a0) = some a1 ∧ zrc σ x1 2 (fun a6 => zcl C 128 [.ref a6] Y σ (zqI (fun v3 s4 => znewM s4 (4 : Int32) ((1 : Int32) <<< (v3 &&& 31)) (fun s10 => zput s10 G.1 (some a0) 14 0 (va_rf (some s4.2.1)) (fun s11 => ∃ n, zIt (fun _ _ => False) (fun rec21 (p19 : Int32) (s20 : zS) => (((4 : Int32) ≤ p19) → Q none s20) ∧ ((¬ (4 : Int32) ≤ p19) → ∃ n, zIt (fun _ _ => False) (fun rec25 (p23 : Int32) (s24 : zS) => zgR s24 (some a0) 14 0 (fun v26 => zaR s24 5 v26 p19 (fun v38 => zln s24 0 v38 (fun v44 => ((v44 ≤ p23) → (∀ v47 : Int32, v47 = p19 + (1 : Int32) → rec21 v47 s24)) ∧ ((¬ v44 ≤ p23) → zcl C 431 [.int p23] Y s24 (zqI (fun v49 s50 => zgR s50 (some a0) 14 0 (fun v52 => zaR s50 5 v52 p19 (fun v64 => zgR s50 (some a0) 14 0 (fun v66 => zaR s50 5 v66 p19 (fun v78 => zaI s50 0 v78 (p23 &&& (p23 - (1 : Int32))) (fun v86 => zrc s50 x1 2 (fun a91 => zcl C 129 [.ref a91, .int v49] Y s50 (zqR (fun v88 s89 => (zcst s89 v88 [12] ∧ zgR s89 v88 12 0 (fun v95 => zaI s89 0 v95 p19 (fun v107 => zsI s89 G.1 0 v64 p23 (v86 + v107) (fun s116 => (∀ v118 : Int32, v118 = p23 + (1 : Int32) → rec25 v118 s116)))))))))))))))))))) n (1 : Int32) s20)) n (0 : Int32) s11)))))))
set_option maxHeartbeats 4000000 in
theorem wk451 {l : Launch} {g : zG} {d : Nat} {C : zO} (hG : zGk g) (hC : zSound l g d C) {args : List Value} {Q : zQ} {Y : zY} {σ : zS} (hw : zb451 (zpg g) C args Q Y σ) : zMet l g (d + 1) (⟨"PackingDuel$Sums", "<init>", "(Ljava/util/ArrayList;)V"⟩, Cond.code ⟨"PackingDuel$Sums", "<init>", "(Ljava/util/ArrayList;)V"⟩ prog_21_method_1_code 5 (Option.none : Option FieldType)) args σ Q Y := by
  obtain ⟨a0, x1, rfl, hw⟩ := hw
  refine zof hG (by decide +kernel) [false, false] ⟨rfl, (zc_rf _), trivial⟩ (Nat.le_of_ble_eq_true rfl) (ls := [some (va_rf (some a0)), some (va_rf x1), none, none, none]) rfl ?_
  intro X hX hR hTb hd1 hd2 hl hg hnm
  subst hl
  subst hg
  have hd : zDep X d := ⟨hd1, hd2⟩
  refine z_aload_n hX dX10_init_0 rfl (i := 0) rfl ?_
  obtain ⟨a1, r2, hw⟩ := hw
  refine z_oinit hX hd dX10_init_1 q360 q191 q192 r2 rfl (zcs8 (Nat.le_of_ble_eq_true rfl)) ?_
  refine z_aload_n hX dX10_init_4 rfl (i := 0) rfl ?_
  refine z_iconst hX (v := (4 : Int32)) dX10_init_5 (by decide) ?_
  refine z_iconst hX (v := (1 : Int32)) dX10_init_6 (by decide) ?_
  refine z_aload_n hX dX10_init_7 rfl (i := 1) rfl ?_
  obtain ⟨a6, f7, r8, m9, hw⟩ := hw
  refine z_invV hX hd r8 (ci := 2) rfl rfl m9 dX10_init_8 (hC 128 _ zm128 _ _ _ _ hw) q361 q362 q363 zh5 q364 q134 zn128 rfl (Nat.le_of_ble_eq_true rfl) (st := [.int (1 : Int32), .int (4 : Int32), va_rf (some a0)]) rfl (zcs8 (Nat.le_of_ble_eq_true rfl)) rfl (zkI (fun v3 s4 hw => ?_)) (zout hX hR hTb)
  refine z_ishl hX dX10_init_11 ?_
  refine z_multi hX dX10_init_12 q365 q366 q394 hw (fun s10 hw => ?_)
  obtain ⟨a13, f14, r15, g16, m17, l18, hw⟩ := hw
  refine z_putF hX zc14 (k := 0) dX10_init_16 (Nat.le_of_ble_eq_true rfl) q386 rfl hnm rfl (zn_a _ _) (zf_a _ _) r15 g16 m17 l18 (z_nm (fun s11 e12 => ?_))
  have hw := hw s11 e12
  refine z_iconst hX (v := (0 : Int32)) dX10_init_19 (by decide) ?_
  refine z_istore_n hX dX10_init_20 rfl (i := 2) (Nat.le_of_ble_eq_true rfl) (zc_rf _) (ls2 := [some (va_rf (some a0)), some (va_rf x1), some (.int (0 : Int32)), none, none]) rfl ?_
  obtain ⟨n121, hw⟩ := hw
  refine zIt_w (P := fun (j : Int32 → zS → Prop) => ∀ (p19 : Int32) (s20 : zS), j p19 s20 → zW X s20 21 [some (va_rf (some a0)), some (va_rf x1), some (.int p19), none, none] []) (fun _ _ h => h.elim) (fun rec21 hrec21 p19 s20 hw => ?_) n121 _ _ hw
  refine z_iload_n hX dX10_init_21 rfl (i := 2) rfl ?_
  refine z_iconst hX (v := (4 : Int32)) dX10_init_22 (by decide) ?_
  refine z_icmp_ge hX dX10_init_23 (tgt := 92) rfl (fun c22 => ?_) (fun c22 => ?_)
  · have hw := hw.1 c22
    exact z_return hX hR dX10_init_92 hw
  · have hw := hw.2 c22
    refine z_iconst hX (v := (1 : Int32)) dX10_init_26 (by decide) ?_
    refine z_istore_n hX dX10_init_27 rfl (i := 3) (Nat.le_of_ble_eq_true rfl) rfl (ls2 := [some (va_rf (some a0)), some (va_rf x1), some (.int p19), some (.int (1 : Int32)), none]) rfl ?_
    obtain ⟨n120, hw⟩ := hw
    refine zIt_w (P := fun (j : Int32 → zS → Prop) => ∀ (p23 : Int32) (s24 : zS), j p23 s24 → zW X s24 28 [some (va_rf (some a0)), some (va_rf x1), some (.int p19), some (.int p23), none] []) (fun _ _ h => h.elim) (fun rec25 hrec25 p23 s24 hw => ?_) n120 _ _ hw
    refine z_iload_n hX dX10_init_28 rfl (i := 3) rfl ?_
    refine z_aload_n hX dX10_init_29 rfl (i := 0) rfl ?_
    obtain ⟨a27, f28, v26, r29, m30, e31, hw⟩ := hw
    refine z_get hX zc14 (k := 0) dX10_init_30 (Nat.le_of_ble_eq_true rfl) (zlk hX q386) r29 m30 e31 ?_
    refine z_iload_n hX dX10_init_33 rfl (i := 2) rfl ?_
    obtain ⟨a32, n33, f34, r35, m36, i37, hw⟩ := hw
    refine z_aald hX 5 dX10_init_34 rfl r35 m36 i37 ?_
    revert hw
    generalize f34 (Int32.toNatClampNeg p19) = v38
    intro hw
    obtain ⟨a40, n41, r42, m43, hw⟩ := hw
    refine z_alen hX 0 dX10_init_35 r42 m43 ?_
    revert hw
    generalize nI n41.1 = v44
    intro hw
    refine z_icmp_ge hX dX10_init_36 (tgt := 86) rfl (fun c46 => ?_) (fun c46 => ?_)
    · have hw := hw.1 c46
      obtain ⟨v47, e48⟩ : ∃ y : Int32, y = p19 + (1 : Int32) := ⟨_, rfl⟩
      refine z_iinc hX dX10_init_86 (i := 2) (v := v47) rfl (by rw [e48]; rfl) (Nat.le_of_ble_eq_true rfl) (zc_rf _) (ls2 := [some (va_rf (some a0)), some (va_rf x1), some (.int v47), some (.int p23), none]) rfl ?_
      have hw := hw v47 e48
      refine z_goto hX dX10_init_89 (tgt := 21) rfl ?_
      refine z_sub (ls' := [some (va_rf (some a0)), some (va_rf x1), some (.int v47), none, none]) (zsS (zsS (zsS (zsN (zsN (zs0)))))) ?_
      exact hrec21 _ _ hw
    · have hw := hw.2 c46
      refine z_iload_n hX dX10_init_39 rfl (i := 3) rfl ?_
      refine z_invS hX hd dX10_init_40 (hC 431 _ zm431 _ _ _ _ hw) q367 q368 zh24 q369 q154 zn431 rfl (Nat.le_of_ble_eq_true rfl) (st := []) rfl (zcs8 (Nat.le_of_ble_eq_true rfl)) rfl (zkI (fun v49 s50 hw => ?_)) (zout hX hR hTb)
      refine z_istore hX dX10_init_43 (i := 4) (Nat.le_of_ble_eq_true rfl) rfl (ls2 := [some (va_rf (some a0)), some (va_rf x1), some (.int p19), some (.int p23), some (.int v49)]) rfl ?_
      refine z_aload_n hX dX10_init_45 rfl (i := 0) rfl ?_
      obtain ⟨a53, f54, v52, r55, m56, e57, hw⟩ := hw
      refine z_get hX zc14 (k := 0) dX10_init_46 (Nat.le_of_ble_eq_true rfl) (zlk hX q386) r55 m56 e57 ?_
      refine z_iload_n hX dX10_init_49 rfl (i := 2) rfl ?_
      obtain ⟨a58, n59, f60, r61, m62, i63, hw⟩ := hw
      refine z_aald hX 5 dX10_init_50 rfl r61 m62 i63 ?_
      revert hw
      generalize f60 (Int32.toNatClampNeg p19) = v64
      intro hw
      refine z_iload_n hX dX10_init_51 rfl (i := 3) rfl ?_
      refine z_aload_n hX dX10_init_52 rfl (i := 0) rfl ?_
      obtain ⟨a67, f68, v66, r69, m70, e71, hw⟩ := hw
      refine z_get hX zc14 (k := 0) dX10_init_53 (Nat.le_of_ble_eq_true rfl) (zlk hX q386) r69 m70 e71 ?_
      refine z_iload_n hX dX10_init_56 rfl (i := 2) rfl ?_
      obtain ⟨a72, n73, f74, r75, m76, i77, hw⟩ := hw
      refine z_aald hX 5 dX10_init_57 rfl r75 m76 i77 ?_
      revert hw
      generalize f74 (Int32.toNatClampNeg p19) = v78
      intro hw
      refine z_iload_n hX dX10_init_58 rfl (i := 3) rfl ?_
      refine z_iload_n hX dX10_init_59 rfl (i := 3) rfl ?_
      refine z_iconst hX (v := (1 : Int32)) dX10_init_60 (by decide) ?_
      refine z_isub hX dX10_init_61 ?_
      refine z_iand hX dX10_init_62 ?_
      obtain ⟨a80, n81, f82, r83, m84, i85, hw⟩ := hw
      refine z_iald hX dX10_init_63 r83 m84 i85 ?_
      revert hw
      generalize f82 (Int32.toNatClampNeg (p23 &&& (p23 - (1 : Int32)))) = v86
      intro hw
      refine z_aload_n hX dX10_init_64 rfl (i := 1) rfl ?_
      refine z_iload hX dX10_init_65 (i := 4) rfl ?_
      obtain ⟨a91, f92, r93, m94, hw⟩ := hw
      refine z_invV hX hd r93 (ci := 2) rfl rfl m94 dX10_init_67 (hC 129 _ zm129 _ _ _ _ hw) q371 q372 q373 zh5 q374 q134 zn129 rfl (Nat.le_of_ble_eq_true rfl) (st := [.int v86, .int p23, va_rf v64]) rfl (zcs8 (Nat.le_of_ble_eq_true rfl)) rfl (zkR (fun v88 s89 hw => ?_)) (zout hX hR hTb)
      refine z_cast hX dX10_init_70 q385 (zfa1 ⟨_, rfl, Or.inl rfl⟩ (zfa0)) hw.1 ?_
      have hw := hw.2
      obtain ⟨a96, f97, v95, r98, m99, e100, hw⟩ := hw
      refine z_get hX zc12 (k := 0) dX10_init_73 (Nat.le_of_ble_eq_true rfl) (zlkN hX "PackingDuel" q1519) r98 m99 e100 ?_
      refine z_iload_n hX dX10_init_76 rfl (i := 2) rfl ?_
      obtain ⟨a101, n102, f103, r104, m105, i106, hw⟩ := hw
      refine z_iald hX dX10_init_77 r104 m105 i106 ?_
      revert hw
      generalize f103 (Int32.toNatClampNeg p19) = v107
      intro hw
      refine z_iadd hX dX10_init_78 ?_
      obtain ⟨a109, n110, f111, r112, g113, m114, i115, hw⟩ := hw
      refine z_iast hX dX10_init_79 r112 g113 m114 i115 (z_nm (fun s116 e117 => ?_))
      have hw := hw s116 e117
      obtain ⟨v118, e119⟩ : ∃ y : Int32, y = p23 + (1 : Int32) := ⟨_, rfl⟩
      refine z_iinc hX dX10_init_80 (i := 3) (v := v118) rfl (by rw [e119]; rfl) (Nat.le_of_ble_eq_true rfl) rfl (ls2 := [some (va_rf (some a0)), some (va_rf x1), some (.int p19), some (.int v118), some (.int v49)]) rfl ?_
      have hw := hw v118 e119
      refine z_goto hX dX10_init_83 (tgt := 28) rfl ?_
      refine z_sub (ls' := [some (va_rf (some a0)), some (va_rf x1), some (.int p19), some (.int v118), none]) (zsS (zsS (zsS (zsS (zsN (zs0)))))) ?_
      exact hrec25 _ _ hw
abbrev cX10_sets : ByteArray := prog_21_method_2_code
def yX10_sets : MethodName := ⟨RX10, "sets", "()I"⟩
def dkwX10_sets_0 : List UInt8 := [42, 180, 0, 17, 3, 50, 190, 172]
abbrev dktX10_sets_0 : List UInt8 := dkwX10_sets_0 ++ []
theorem dksX10_sets_0 : cX10_sets.data.toList.drop 0 = dktX10_sets_0 := by decide +kernel
theorem dX10_sets_0 : decode cX10_sets 0 = .ok (.aload_n 0, 1) := dk_42 (dk_at dksX10_sets_0 0 rfl rfl)
theorem dX10_sets_1 : decode cX10_sets 1 = .ok (.getfield 17, 3) := dk_180 0 17 (dk_at dksX10_sets_0 1 rfl rfl)
theorem dX10_sets_4 : decode cX10_sets 4 = .ok (.iconst 0, 1) := dk_3 (dk_at dksX10_sets_0 4 rfl rfl)
theorem dX10_sets_5 : decode cX10_sets 5 = .ok (.aaload, 1) := dk_50 (dk_at dksX10_sets_0 5 rfl rfl)
theorem dX10_sets_6 : decode cX10_sets 6 = .ok (.arraylength, 1) := dk_190 (dk_at dksX10_sets_0 6 rfl rfl)
theorem dX10_sets_7 : decode cX10_sets 7 = .ok (.ireturn, 1) := dk_172 (dk_at dksX10_sets_0 7 rfl rfl)
/-- PackingDuel$Sums.sets()I -/
def zb452 (G : zPg) (C : zO) (args : List Value) (Q : zQ) (Y : zY) (σ : zS) : Prop := ∃ (a0 : Nat), args = [.ref a0] ∧ (zgR σ (some a0) 14 0 (fun v1 => zaR σ 5 v1 (0 : Int32) (fun v13 => zln σ 0 v13 (fun v19 => Q (some (.int v19)) σ))))
set_option maxHeartbeats 4000000 in
theorem wk452 {l : Launch} {g : zG} {d : Nat} {C : zO} (hG : zGk g) (hC : zSound l g d C) {args : List Value} {Q : zQ} {Y : zY} {σ : zS} (hw : zb452 (zpg g) C args Q Y σ) : zMet l g (d + 1) (⟨"PackingDuel$Sums", "sets", "()I"⟩, Cond.code ⟨"PackingDuel$Sums", "sets", "()I"⟩ prog_21_method_2_code 1 (Option.some FieldType.int)) args σ Q Y := by
  obtain ⟨a0, rfl, hw⟩ := hw
  refine zof hG (by decide +kernel) [false] ⟨rfl, trivial⟩ (Nat.le_of_ble_eq_true rfl) (ls := [some (va_rf (some a0))]) rfl ?_
  intro X hX hR hTb hd1 hd2 hl hg hnm
  subst hl
  subst hg
  have hd : zDep X d := ⟨hd1, hd2⟩
  refine z_aload_n hX dX10_sets_0 rfl (i := 0) rfl ?_
  obtain ⟨a2, f3, v1, r4, m5, e6, hw⟩ := hw
  refine z_get hX zc14 (k := 0) dX10_sets_1 (Nat.le_of_ble_eq_true rfl) (zlk hX q386) r4 m5 e6 ?_
  refine z_iconst hX (v := (0 : Int32)) dX10_sets_4 (by decide) ?_
  obtain ⟨a7, n8, f9, r10, m11, i12, hw⟩ := hw
  refine z_aald hX 5 dX10_sets_5 rfl r10 m11 i12 ?_
  revert hw
  generalize f9 (Int32.toNatClampNeg (0 : Int32)) = v13
  intro hw
  obtain ⟨a15, n16, r17, m18, hw⟩ := hw
  refine z_alen hX 0 dX10_sets_6 r17 m18 ?_
  revert hw
  generalize nI n16.1 = v19
  intro hw
  exact z_ireturn hX hR dX10_sets_7 rfl hw
abbrev cX10_weight : ByteArray := prog_21_method_3_code
def yX10_weight : MethodName := ⟨RX10, "weight", "(I)I"⟩
def dkwX10_weight_0 : List UInt8 := [42, 180, 0, 17, 3, 50, 27, 46, 172]
abbrev dktX10_weight_0 : List UInt8 := dkwX10_weight_0 ++ []
theorem dksX10_weight_0 : cX10_weight.data.toList.drop 0 = dktX10_weight_0 := by decide +kernel
theorem dX10_weight_0 : decode cX10_weight 0 = .ok (.aload_n 0, 1) := dk_42 (dk_at dksX10_weight_0 0 rfl rfl)
theorem dX10_weight_1 : decode cX10_weight 1 = .ok (.getfield 17, 3) := dk_180 0 17 (dk_at dksX10_weight_0 1 rfl rfl)
theorem dX10_weight_4 : decode cX10_weight 4 = .ok (.iconst 0, 1) := dk_3 (dk_at dksX10_weight_0 4 rfl rfl)
theorem dX10_weight_5 : decode cX10_weight 5 = .ok (.aaload, 1) := dk_50 (dk_at dksX10_weight_0 5 rfl rfl)
theorem dX10_weight_6 : decode cX10_weight 6 = .ok (.iload_n 1, 1) := dk_27 (dk_at dksX10_weight_0 6 rfl rfl)
theorem dX10_weight_7 : decode cX10_weight 7 = .ok (.iaload, 1) := dk_46 (dk_at dksX10_weight_0 7 rfl rfl)
theorem dX10_weight_8 : decode cX10_weight 8 = .ok (.ireturn, 1) := dk_172 (dk_at dksX10_weight_0 8 rfl rfl)
/-- PackingDuel$Sums.weight(I)I -/
def zb453 (G : zPg) (C : zO) (args : List Value) (Q : zQ) (Y : zY) (σ : zS) : Prop := ∃ (a0 : Nat) (x1 : Int32), args = [.ref a0, .int x1] ∧ (zgR σ (some a0) 14 0 (fun v1 => zaR σ 5 v1 (0 : Int32) (fun v13 => zaI σ 0 v13 x1 (fun v21 => Q (some (.int v21)) σ))))
set_option maxHeartbeats 4000000 in
theorem wk453 {l : Launch} {g : zG} {d : Nat} {C : zO} (hG : zGk g) (hC : zSound l g d C) {args : List Value} {Q : zQ} {Y : zY} {σ : zS} (hw : zb453 (zpg g) C args Q Y σ) : zMet l g (d + 1) (⟨"PackingDuel$Sums", "weight", "(I)I"⟩, Cond.code ⟨"PackingDuel$Sums", "weight", "(I)I"⟩ prog_21_method_3_code 2 (Option.some FieldType.int)) args σ Q Y := by
  obtain ⟨a0, x1, rfl, hw⟩ := hw
  refine zof hG (by decide +kernel) [false, false] ⟨rfl, rfl, trivial⟩ (Nat.le_of_ble_eq_true rfl) (ls := [some (va_rf (some a0)), some (.int x1)]) rfl ?_
  intro X hX hR hTb hd1 hd2 hl hg hnm
  subst hl
  subst hg
  have hd : zDep X d := ⟨hd1, hd2⟩
  refine z_aload_n hX dX10_weight_0 rfl (i := 0) rfl ?_
  obtain ⟨a2, f3, v1, r4, m5, e6, hw⟩ := hw
  refine z_get hX zc14 (k := 0) dX10_weight_1 (Nat.le_of_ble_eq_true rfl) (zlk hX q386) r4 m5 e6 ?_
  refine z_iconst hX (v := (0 : Int32)) dX10_weight_4 (by decide) ?_
  obtain ⟨a7, n8, f9, r10, m11, i12, hw⟩ := hw
  refine z_aald hX 5 dX10_weight_5 rfl r10 m11 i12 ?_
  revert hw
  generalize f9 (Int32.toNatClampNeg (0 : Int32)) = v13
  intro hw
  refine z_iload_n hX dX10_weight_6 rfl (i := 1) rfl ?_
  obtain ⟨a15, n16, f17, r18, m19, i20, hw⟩ := hw
  refine z_iald hX dX10_weight_7 r18 m19 i20 ?_
  revert hw
  generalize f17 (Int32.toNatClampNeg x1) = v21
  intro hw
  exact z_ireturn hX hR dX10_weight_8 rfl hw
abbrev cX11_init : ByteArray := prog_7_method_1_code
def yX11_init : MethodName := ⟨RX11, "<init>", "()V"⟩
theorem dX11_init_0 : decode cX11_init 0 = .ok (.aload_n 0, 1) := by decide +kernel
theorem dX11_init_1 : decode cX11_init 1 = .ok (.invokespecial 1, 3) := by decide +kernel
theorem dX11_init_4 : decode cX11_init 4 = .ok (.return_, 1) := by decide +kernel
/-- PackingDuel$HeavyError.<init>()V -/
def zb455 (G : zPg) (C : zO) (args : List Value) (Q : zQ) (Y : zY) (σ : zS) : Prop := ∃ (a0 : Nat), args = [.ref a0] ∧ ((∃ a4, (some a0) = some a4 ∧ zcl C 448 [.ref a4] Y σ (zqV (fun s2 => Q none s2))))
set_option maxHeartbeats 4000000 in
theorem wk455 {l : Launch} {g : zG} {d : Nat} {C : zO} (hG : zGk g) (hC : zSound l g d C) {args : List Value} {Q : zQ} {Y : zY} {σ : zS} (hw : zb455 (zpg g) C args Q Y σ) : zMet l g (d + 1) (⟨"PackingDuel$HeavyError", "<init>", "()V"⟩, Cond.code ⟨"PackingDuel$HeavyError", "<init>", "()V"⟩ prog_7_method_1_code 1 (Option.none : Option FieldType)) args σ Q Y := by
  obtain ⟨a0, rfl, hw⟩ := hw
  refine zof hG (by decide +kernel) [false] ⟨rfl, trivial⟩ (Nat.le_of_ble_eq_true rfl) (ls := [some (va_rf (some a0))]) rfl ?_
  intro X hX hR hTb hd1 hd2 hl hg hnm
  subst hl
  subst hg
  have hd : zDep X d := ⟨hd1, hd2⟩
  refine z_aload_n hX dX11_init_0 rfl (i := 0) rfl ?_
  obtain ⟨a4, r5, hw⟩ := hw
  refine z_invI hX hd r5 dX11_init_1 (hC 448 _ zm448 _ _ _ _ hw) q1581 q1564 rfl zh28 q1565 q159 zn448 rfl (Nat.le_of_ble_eq_true rfl) (st := []) rfl (zcs8 (Nat.le_of_ble_eq_true rfl)) rfl (zkV (fun s2 hw => ?_)) (zout hX hR hTb)
  exact z_return hX hR dX11_init_4 hw
abbrev cX11_code : ByteArray := prog_7_method_2_code
def yX11_code : MethodName := ⟨RX11, "code", "()I"⟩
theorem dX11_code_0 : decode cX11_code 0 = .ok (.iconst 5, 1) := by decide +kernel
theorem dX11_code_1 : decode cX11_code 1 = .ok (.ireturn, 1) := by decide +kernel
/-- PackingDuel$HeavyError.code()I -/
def zb456 (G : zPg) (C : zO) (args : List Value) (Q : zQ) (Y : zY) (σ : zS) : Prop := ∃ (a0 : Nat), args = [.ref a0] ∧ (Q (some (.int (5 : Int32))) σ)
set_option maxHeartbeats 4000000 in
theorem wk456 {l : Launch} {g : zG} {d : Nat} {C : zO} (hG : zGk g) (hC : zSound l g d C) {args : List Value} {Q : zQ} {Y : zY} {σ : zS} (hw : zb456 (zpg g) C args Q Y σ) : zMet l g (d + 1) (⟨"PackingDuel$HeavyError", "code", "()I"⟩, Cond.code ⟨"PackingDuel$HeavyError", "code", "()I"⟩ prog_7_method_2_code 1 (Option.some FieldType.int)) args σ Q Y := by
  obtain ⟨a0, rfl, hw⟩ := hw
  refine zof hG (by decide +kernel) [false] ⟨rfl, trivial⟩ (Nat.le_of_ble_eq_true rfl) (ls := [some (va_rf (some a0))]) rfl ?_
  intro X hX hR hTb hd1 hd2 hl hg hnm
  subst hl
  subst hg
  have hd : zDep X d := ⟨hd1, hd2⟩
  refine z_iconst hX (v := (5 : Int32)) dX11_code_0 (by decide) ?_
  exact z_ireturn hX hR dX11_code_1 rfl hw
def RX12 : String := "PackingDuel$Taste"
abbrev cX12_init : ByteArray := prog_22_method_1_code
def yX12_init : MethodName := ⟨RX12, "<init>", "()V"⟩
theorem dX12_init_0 : decode cX12_init 0 = .ok (.aload_n 0, 1) := by decide +kernel
theorem dX12_init_1 : decode cX12_init 1 = .ok (.invokespecial 1, 3) := by decide +kernel
theorem dX12_init_4 : decode cX12_init 4 = .ok (.return_, 1) := by decide +kernel
/-- PackingDuel$Taste.<init>()V -/
def zb458 (G : zPg) (C : zO) (args : List Value) (Q : zQ) (Y : zY) (σ : zS) : Prop := ∃ (a0 : Nat), args = [.ref a0] ∧ ((∃ a1, (some a0) = some a1 ∧ Q none σ))
set_option maxHeartbeats 4000000 in
theorem wk458 {l : Launch} {g : zG} {d : Nat} {C : zO} (hG : zGk g) (hC : zSound l g d C) {args : List Value} {Q : zQ} {Y : zY} {σ : zS} (hw : zb458 (zpg g) C args Q Y σ) : zMet l g (d + 1) (⟨"PackingDuel$Taste", "<init>", "()V"⟩, Cond.code ⟨"PackingDuel$Taste", "<init>", "()V"⟩ prog_22_method_1_code 1 (Option.none : Option FieldType)) args σ Q Y := by
  obtain ⟨a0, rfl, hw⟩ := hw
  refine zof hG (by decide +kernel) [false] ⟨rfl, trivial⟩ (Nat.le_of_ble_eq_true rfl) (ls := [some (va_rf (some a0))]) rfl ?_
  intro X hX hR hTb hd1 hd2 hl hg hnm
  subst hl
  subst hg
  have hd : zDep X d := ⟨hd1, hd2⟩
  refine z_aload_n hX dX12_init_0 rfl (i := 0) rfl ?_
  obtain ⟨a1, r2, hw⟩ := hw
  refine z_oinit hX hd dX12_init_1 q427 q191 q192 r2 rfl (zcs8 (Nat.le_of_ble_eq_true rfl)) ?_
  exact z_return hX hR dX12_init_4 hw
abbrev cX13_init : ByteArray := prog_6_method_1_code
def yX13_init : MethodName := ⟨RX13, "<init>", "(Z)V"⟩
def dkwX13_init_0 : List UInt8 := [42, 183, 0, 3, 42, 27, 181, 0, 9, 177]
abbrev dktX13_init_0 : List UInt8 := dkwX13_init_0 ++ []
theorem dksX13_init_0 : cX13_init.data.toList.drop 0 = dktX13_init_0 := by decide +kernel
theorem dX13_init_0 : decode cX13_init 0 = .ok (.aload_n 0, 1) := dk_42 (dk_at dksX13_init_0 0 rfl rfl)
theorem dX13_init_1 : decode cX13_init 1 = .ok (.invokespecial 3, 3) := dk_183 0 3 (dk_at dksX13_init_0 1 rfl rfl)
theorem dX13_init_4 : decode cX13_init 4 = .ok (.aload_n 0, 1) := dk_42 (dk_at dksX13_init_0 4 rfl rfl)
theorem dX13_init_5 : decode cX13_init 5 = .ok (.iload_n 1, 1) := dk_27 (dk_at dksX13_init_0 5 rfl rfl)
theorem dX13_init_6 : decode cX13_init 6 = .ok (.putfield 9, 3) := dk_181 0 9 (dk_at dksX13_init_0 6 rfl rfl)
theorem dX13_init_9 : decode cX13_init 9 = .ok (.return_, 1) := dk_177 (dk_at dksX13_init_0 9 rfl rfl)
/-- PackingDuel$Greedy.<init>(Z)V -/
def zb459 (G : zPg) (C : zO) (args : List Value) (Q : zQ) (Y : zY) (σ : zS) : Prop := ∃ (a0 : Nat) (x1 : Int32), args = [.ref a0, .int x1] ∧ ((∃ a4, (some a0) = some a4 ∧ zcl C 458 [.ref a4] Y σ (zqV (fun s2 => (zbool x1 ∧ zput s2 G.1 (some a0) 17 0 (.int x1) (fun s6 => Q none s6))))))
set_option maxHeartbeats 4000000 in
theorem wk459 {l : Launch} {g : zG} {d : Nat} {C : zO} (hG : zGk g) (hC : zSound l g d C) {args : List Value} {Q : zQ} {Y : zY} {σ : zS} (hw : zb459 (zpg g) C args Q Y σ) : zMet l g (d + 1) (⟨"PackingDuel$Greedy", "<init>", "(Z)V"⟩, Cond.code ⟨"PackingDuel$Greedy", "<init>", "(Z)V"⟩ prog_6_method_1_code 2 (Option.none : Option FieldType)) args σ Q Y := by
  obtain ⟨a0, x1, rfl, hw⟩ := hw
  refine zof hG (by decide +kernel) [false, false] ⟨rfl, rfl, trivial⟩ (Nat.le_of_ble_eq_true rfl) (ls := [some (va_rf (some a0)), some (.int x1)]) rfl ?_
  intro X hX hR hTb hd1 hd2 hl hg hnm
  subst hl
  subst hg
  have hd : zDep X d := ⟨hd1, hd2⟩
  refine z_aload_n hX dX13_init_0 rfl (i := 0) rfl ?_
  obtain ⟨a4, r5, hw⟩ := hw
  refine z_invIN hX hd r5 dX13_init_1 (hC 458 _ zm458 _ _ _ _ hw) q424 q425 rfl zh34 q426 q166 zn458 rfl (Nat.le_of_ble_eq_true rfl) (st := []) rfl (zcs8 (Nat.le_of_ble_eq_true rfl)) rfl (zkV (fun s2 hw => ?_)) (zout hX hR hTb)
  refine z_aload_n hX dX13_init_4 rfl (i := 0) rfl ?_
  refine z_iload_n hX dX13_init_5 rfl (i := 1) rfl ?_
  obtain ⟨b14, hw⟩ := hw
  obtain ⟨a8, f9, r10, g11, m12, l13, hw⟩ := hw
  refine z_putF hX zc17 (k := 0) dX13_init_6 (Nat.le_of_ble_eq_true rfl) q428 rfl hnm rfl (zn_z b14) (zf_z b14) r10 g11 m12 l13 (z_nm (fun s6 e7 => ?_))
  have hw := hw s6 e7
  exact z_return hX hR dX13_init_9 hw
abbrev cX13_isBetter : ByteArray := prog_6_method_2_code
def yX13_isBetter : MethodName := ⟨RX13, "isBetter", "(LPackingDuel$Sums;II)Z"⟩
def dkwX13_isBetter_4 : List UInt8 := [172]
abbrev dktX13_isBetter_4 : List UInt8 := dkwX13_isBetter_4 ++ []
def dkwX13_isBetter_3 : List UInt8 := [180, 0, 9, 159, 0, 7, 4, 167, 0, 17, 3, 167, 0, 13, 28, 29, 162, 0, 7, 4, 167, 0, 4, 3]
abbrev dktX13_isBetter_3 : List UInt8 := dkwX13_isBetter_3 ++ dktX13_isBetter_4
def dkwX13_isBetter_2 : List UInt8 := [50, 29, 46, 100, 54, 5, 21, 5, 153, 0, 28, 21, 5, 158, 0, 7, 4, 167, 0, 4, 3, 42]
abbrev dktX13_isBetter_2 : List UInt8 := dkwX13_isBetter_2 ++ dktX13_isBetter_3
def dkwX13_isBetter_1 : List UInt8 := [21, 4, 158, 0, 7, 4, 167, 0, 4, 3, 172, 43, 180, 0, 15, 6, 50, 28, 46, 43, 180, 0, 15, 6]
abbrev dktX13_isBetter_1 : List UInt8 := dkwX13_isBetter_1 ++ dktX13_isBetter_2
def dkwX13_isBetter_0 : List UInt8 := [43, 180, 0, 15, 5, 50, 28, 46, 43, 180, 0, 15, 5, 50, 29, 46, 100, 54, 4, 21, 4, 153, 0, 14]
abbrev dktX13_isBetter_0 : List UInt8 := dkwX13_isBetter_0 ++ dktX13_isBetter_1
theorem dksX13_isBetter_0 : cX13_isBetter.data.toList.drop 0 = dktX13_isBetter_0 := by decide +kernel
theorem dksX13_isBetter_1 : cX13_isBetter.data.toList.drop 24 = dktX13_isBetter_1 := dk_seg dksX13_isBetter_0 24 rfl rfl
theorem dksX13_isBetter_2 : cX13_isBetter.data.toList.drop 48 = dktX13_isBetter_2 := dk_seg dksX13_isBetter_1 24 rfl rfl
theorem dksX13_isBetter_3 : cX13_isBetter.data.toList.drop 70 = dktX13_isBetter_3 := dk_seg dksX13_isBetter_2 22 rfl rfl
theorem dksX13_isBetter_4 : cX13_isBetter.data.toList.drop 94 = dktX13_isBetter_4 := dk_seg dksX13_isBetter_3 24 rfl rfl
theorem dX13_isBetter_0 : decode cX13_isBetter 0 = .ok (.aload_n 1, 1) := dk_43 (dk_at dksX13_isBetter_0 0 rfl rfl)
theorem dX13_isBetter_1 : decode cX13_isBetter 1 = .ok (.getfield 15, 3) := dk_180 0 15 (dk_at dksX13_isBetter_0 1 rfl rfl)
theorem dX13_isBetter_4 : decode cX13_isBetter 4 = .ok (.iconst 2, 1) := dk_5 (dk_at dksX13_isBetter_0 4 rfl rfl)
theorem dX13_isBetter_5 : decode cX13_isBetter 5 = .ok (.aaload, 1) := dk_50 (dk_at dksX13_isBetter_0 5 rfl rfl)
theorem dX13_isBetter_6 : decode cX13_isBetter 6 = .ok (.iload_n 2, 1) := dk_28 (dk_at dksX13_isBetter_0 6 rfl rfl)
theorem dX13_isBetter_7 : decode cX13_isBetter 7 = .ok (.iaload, 1) := dk_46 (dk_at dksX13_isBetter_0 7 rfl rfl)
theorem dX13_isBetter_8 : decode cX13_isBetter 8 = .ok (.aload_n 1, 1) := dk_43 (dk_at dksX13_isBetter_0 8 rfl rfl)
theorem dX13_isBetter_9 : decode cX13_isBetter 9 = .ok (.getfield 15, 3) := dk_180 0 15 (dk_at dksX13_isBetter_0 9 rfl rfl)
theorem dX13_isBetter_12 : decode cX13_isBetter 12 = .ok (.iconst 2, 1) := dk_5 (dk_at dksX13_isBetter_0 12 rfl rfl)
theorem dX13_isBetter_13 : decode cX13_isBetter 13 = .ok (.aaload, 1) := dk_50 (dk_at dksX13_isBetter_0 13 rfl rfl)
theorem dX13_isBetter_14 : decode cX13_isBetter 14 = .ok (.iload_n 3, 1) := dk_29 (dk_at dksX13_isBetter_0 14 rfl rfl)
theorem dX13_isBetter_15 : decode cX13_isBetter 15 = .ok (.iaload, 1) := dk_46 (dk_at dksX13_isBetter_0 15 rfl rfl)
theorem dX13_isBetter_16 : decode cX13_isBetter 16 = .ok (.isub, 1) := dk_100 (dk_at dksX13_isBetter_0 16 rfl rfl)
theorem dX13_isBetter_17 : decode cX13_isBetter 17 = .ok (.istore 4, 2) := dk_54 4 (dk_at dksX13_isBetter_0 17 rfl rfl)
theorem dX13_isBetter_19 : decode cX13_isBetter 19 = .ok (.iload 4, 2) := dk_21 4 (dk_at dksX13_isBetter_0 19 rfl rfl)
theorem dX13_isBetter_21 : decode cX13_isBetter 21 = .ok (.ifCond .eq 14, 3) := dk_153 0 14 (dk_at dksX13_isBetter_0 21 rfl rfl)
theorem dX13_isBetter_24 : decode cX13_isBetter 24 = .ok (.iload 4, 2) := dk_21 4 (dk_at dksX13_isBetter_1 0 rfl rfl)
theorem dX13_isBetter_26 : decode cX13_isBetter 26 = .ok (.ifCond .le 7, 3) := dk_158 0 7 (dk_at dksX13_isBetter_1 2 rfl rfl)
theorem dX13_isBetter_29 : decode cX13_isBetter 29 = .ok (.iconst 1, 1) := dk_4 (dk_at dksX13_isBetter_1 5 rfl rfl)
theorem dX13_isBetter_30 : decode cX13_isBetter 30 = .ok (.goto 4, 3) := dk_167 0 4 (dk_at dksX13_isBetter_1 6 rfl rfl)
theorem dX13_isBetter_33 : decode cX13_isBetter 33 = .ok (.iconst 0, 1) := dk_3 (dk_at dksX13_isBetter_1 9 rfl rfl)
theorem dX13_isBetter_34 : decode cX13_isBetter 34 = .ok (.ireturn, 1) := dk_172 (dk_at dksX13_isBetter_1 10 rfl rfl)
theorem dX13_isBetter_35 : decode cX13_isBetter 35 = .ok (.aload_n 1, 1) := dk_43 (dk_at dksX13_isBetter_1 11 rfl rfl)
theorem dX13_isBetter_36 : decode cX13_isBetter 36 = .ok (.getfield 15, 3) := dk_180 0 15 (dk_at dksX13_isBetter_1 12 rfl rfl)
theorem dX13_isBetter_39 : decode cX13_isBetter 39 = .ok (.iconst 3, 1) := dk_6 (dk_at dksX13_isBetter_1 15 rfl rfl)
theorem dX13_isBetter_40 : decode cX13_isBetter 40 = .ok (.aaload, 1) := dk_50 (dk_at dksX13_isBetter_1 16 rfl rfl)
theorem dX13_isBetter_41 : decode cX13_isBetter 41 = .ok (.iload_n 2, 1) := dk_28 (dk_at dksX13_isBetter_1 17 rfl rfl)
theorem dX13_isBetter_42 : decode cX13_isBetter 42 = .ok (.iaload, 1) := dk_46 (dk_at dksX13_isBetter_1 18 rfl rfl)
theorem dX13_isBetter_43 : decode cX13_isBetter 43 = .ok (.aload_n 1, 1) := dk_43 (dk_at dksX13_isBetter_1 19 rfl rfl)
theorem dX13_isBetter_44 : decode cX13_isBetter 44 = .ok (.getfield 15, 3) := dk_180 0 15 (dk_at dksX13_isBetter_1 20 rfl rfl)
theorem dX13_isBetter_47 : decode cX13_isBetter 47 = .ok (.iconst 3, 1) := dk_6 (dk_at dksX13_isBetter_1 23 rfl rfl)
theorem dX13_isBetter_48 : decode cX13_isBetter 48 = .ok (.aaload, 1) := dk_50 (dk_at dksX13_isBetter_2 0 rfl rfl)
theorem dX13_isBetter_49 : decode cX13_isBetter 49 = .ok (.iload_n 3, 1) := dk_29 (dk_at dksX13_isBetter_2 1 rfl rfl)
theorem dX13_isBetter_50 : decode cX13_isBetter 50 = .ok (.iaload, 1) := dk_46 (dk_at dksX13_isBetter_2 2 rfl rfl)
theorem dX13_isBetter_51 : decode cX13_isBetter 51 = .ok (.isub, 1) := dk_100 (dk_at dksX13_isBetter_2 3 rfl rfl)
theorem dX13_isBetter_52 : decode cX13_isBetter 52 = .ok (.istore 5, 2) := dk_54 5 (dk_at dksX13_isBetter_2 4 rfl rfl)
theorem dX13_isBetter_54 : decode cX13_isBetter 54 = .ok (.iload 5, 2) := dk_21 5 (dk_at dksX13_isBetter_2 6 rfl rfl)
theorem dX13_isBetter_56 : decode cX13_isBetter 56 = .ok (.ifCond .eq 28, 3) := dk_153 0 28 (dk_at dksX13_isBetter_2 8 rfl rfl)
theorem dX13_isBetter_59 : decode cX13_isBetter 59 = .ok (.iload 5, 2) := dk_21 5 (dk_at dksX13_isBetter_2 11 rfl rfl)
theorem dX13_isBetter_61 : decode cX13_isBetter 61 = .ok (.ifCond .le 7, 3) := dk_158 0 7 (dk_at dksX13_isBetter_2 13 rfl rfl)
theorem dX13_isBetter_64 : decode cX13_isBetter 64 = .ok (.iconst 1, 1) := dk_4 (dk_at dksX13_isBetter_2 16 rfl rfl)
theorem dX13_isBetter_65 : decode cX13_isBetter 65 = .ok (.goto 4, 3) := dk_167 0 4 (dk_at dksX13_isBetter_2 17 rfl rfl)
theorem dX13_isBetter_68 : decode cX13_isBetter 68 = .ok (.iconst 0, 1) := dk_3 (dk_at dksX13_isBetter_2 20 rfl rfl)
theorem dX13_isBetter_69 : decode cX13_isBetter 69 = .ok (.aload_n 0, 1) := dk_42 (dk_at dksX13_isBetter_2 21 rfl rfl)
theorem dX13_isBetter_70 : decode cX13_isBetter 70 = .ok (.getfield 9, 3) := dk_180 0 9 (dk_at dksX13_isBetter_3 0 rfl rfl)
theorem dX13_isBetter_73 : decode cX13_isBetter 73 = .ok (.if_icmp .eq 7, 3) := dk_159 0 7 (dk_at dksX13_isBetter_3 3 rfl rfl)
theorem dX13_isBetter_76 : decode cX13_isBetter 76 = .ok (.iconst 1, 1) := dk_4 (dk_at dksX13_isBetter_3 6 rfl rfl)
theorem dX13_isBetter_77 : decode cX13_isBetter 77 = .ok (.goto 17, 3) := dk_167 0 17 (dk_at dksX13_isBetter_3 7 rfl rfl)
theorem dX13_isBetter_80 : decode cX13_isBetter 80 = .ok (.iconst 0, 1) := dk_3 (dk_at dksX13_isBetter_3 10 rfl rfl)
theorem dX13_isBetter_81 : decode cX13_isBetter 81 = .ok (.goto 13, 3) := dk_167 0 13 (dk_at dksX13_isBetter_3 11 rfl rfl)
theorem dX13_isBetter_84 : decode cX13_isBetter 84 = .ok (.iload_n 2, 1) := dk_28 (dk_at dksX13_isBetter_3 14 rfl rfl)
theorem dX13_isBetter_85 : decode cX13_isBetter 85 = .ok (.iload_n 3, 1) := dk_29 (dk_at dksX13_isBetter_3 15 rfl rfl)
theorem dX13_isBetter_86 : decode cX13_isBetter 86 = .ok (.if_icmp .ge 7, 3) := dk_162 0 7 (dk_at dksX13_isBetter_3 16 rfl rfl)
theorem dX13_isBetter_89 : decode cX13_isBetter 89 = .ok (.iconst 1, 1) := dk_4 (dk_at dksX13_isBetter_3 19 rfl rfl)
theorem dX13_isBetter_90 : decode cX13_isBetter 90 = .ok (.goto 4, 3) := dk_167 0 4 (dk_at dksX13_isBetter_3 20 rfl rfl)
theorem dX13_isBetter_93 : decode cX13_isBetter 93 = .ok (.iconst 0, 1) := dk_3 (dk_at dksX13_isBetter_3 23 rfl rfl)
theorem dX13_isBetter_94 : decode cX13_isBetter 94 = .ok (.ireturn, 1) := dk_172 (dk_at dksX13_isBetter_4 0 rfl rfl)
/-- PackingDuel$Greedy.isBetter(LPackingDuel$Sums;II)Z -/
def zb460 (G : zPg) (C : zO) (args : List Value) (Q : zQ) (Y : zY) (σ : zS) : Prop := ∃ (a0 : Nat) (x1 : Option Nat) (x2 : Int32) (x3 : Int32), args = [.ref a0, va_rf x1, .int x2, .int x3] ∧ (zgR σ x1 14 0 (fun v1 => zaR σ 5 v1 (2 : Int32) (fun v13 => zaI σ 0 v13 x2 (fun v21 => zgR σ x1 14 0 (fun v23 => zaR σ 5 v23 (2 : Int32) (fun v35 => zaI σ 0 v35 x3 (fun v43 => (((v21 - v43) = 0) → zgR σ x1 14 0 (fun v46 => zaR σ 5 v46 (3 : Int32) (fun v58 => zaI σ 0 v58 x2 (fun v66 => zgR σ x1 14 0 (fun v68 => zaR σ 5 v68 (3 : Int32) (fun v80 => zaI σ 0 v80 x3 (fun v88 => zJ (fun (p90 : Int32) (s91 : zS) => zbool p90 ∧ Q (some (.int p90)) s91) (fun (j92 : Int32 → zS → Prop) => (((v66 - v88) = 0) → ((x3 ≤ x2) → j92 (0 : Int32) σ) ∧ ((¬ x3 ≤ x2) → j92 (1 : Int32) σ)) ∧ ((¬ (v66 - v88) = 0) → zJ (fun (p95 : Int32) (s96 : zS) => zgI s96 (some a0) 17 0 (fun v98 => ((p95 = v98) → j92 (0 : Int32) s96) ∧ ((¬ p95 = v98) → j92 (1 : Int32) s96))) (fun (j97 : Int32 → zS → Prop) => (((v66 - v88) ≤ 0) → j97 (0 : Int32) σ) ∧ ((¬ (v66 - v88) ≤ 0) → j97 (1 : Int32) σ))))))))))) ∧ ((¬ (v21 - v43) = 0) → zJ (fun (p106 : Int32) (s107 : zS) => zbool p106 ∧ Q (some (.int p106)) s107) (fun (j108 : Int32 → zS → Prop) => (((v21 - v43) ≤ 0) → j108 (0 : Int32) σ) ∧ ((¬ (v21 - v43) ≤ 0) → j108 (1 : Int32) σ))))))))))
set_option maxHeartbeats 4000000 in
theorem wk460 {l : Launch} {g : zG} {d : Nat} {C : zO} (hG : zGk g) (hC : zSound l g d C) {args : List Value} {Q : zQ} {Y : zY} {σ : zS} (hw : zb460 (zpg g) C args Q Y σ) : zMet l g (d + 1) (⟨"PackingDuel$Greedy", "isBetter", "(LPackingDuel$Sums;II)Z"⟩, Cond.code ⟨"PackingDuel$Greedy", "isBetter", "(LPackingDuel$Sums;II)Z"⟩ prog_6_method_2_code 6 (Option.some FieldType.boolean)) args σ Q Y := by
  obtain ⟨a0, x1, x2, x3, rfl, hw⟩ := hw
  refine zof hG (by decide +kernel) [false, false, false, false] ⟨rfl, (zc_rf _), rfl, rfl, trivial⟩ (Nat.le_of_ble_eq_true rfl) (ls := [some (va_rf (some a0)), some (va_rf x1), some (.int x2), some (.int x3), none, none]) rfl ?_
  intro X hX hR hTb hd1 hd2 hl hg hnm
  subst hl
  subst hg
  have hd : zDep X d := ⟨hd1, hd2⟩
  refine z_aload_n hX dX13_isBetter_0 rfl (i := 1) rfl ?_
  obtain ⟨a2, f3, v1, r4, m5, e6, hw⟩ := hw
  refine z_get hX zc14 (k := 0) dX13_isBetter_1 (Nat.le_of_ble_eq_true rfl) (zlkN hX "PackingDuel" q388) r4 m5 e6 ?_
  refine z_iconst hX (v := (2 : Int32)) dX13_isBetter_4 (by decide) ?_
  obtain ⟨a7, n8, f9, r10, m11, i12, hw⟩ := hw
  refine z_aald hX 5 dX13_isBetter_5 rfl r10 m11 i12 ?_
  revert hw
  generalize f9 (Int32.toNatClampNeg (2 : Int32)) = v13
  intro hw
  refine z_iload_n hX dX13_isBetter_6 rfl (i := 2) rfl ?_
  obtain ⟨a15, n16, f17, r18, m19, i20, hw⟩ := hw
  refine z_iald hX dX13_isBetter_7 r18 m19 i20 ?_
  revert hw
  generalize f17 (Int32.toNatClampNeg x2) = v21
  intro hw
  refine z_aload_n hX dX13_isBetter_8 rfl (i := 1) rfl ?_
  obtain ⟨a24, f25, v23, r26, m27, e28, hw⟩ := hw
  refine z_get hX zc14 (k := 0) dX13_isBetter_9 (Nat.le_of_ble_eq_true rfl) (zlkN hX "PackingDuel" q388) r26 m27 e28 ?_
  refine z_iconst hX (v := (2 : Int32)) dX13_isBetter_12 (by decide) ?_
  obtain ⟨a29, n30, f31, r32, m33, i34, hw⟩ := hw
  refine z_aald hX 5 dX13_isBetter_13 rfl r32 m33 i34 ?_
  revert hw
  generalize f31 (Int32.toNatClampNeg (2 : Int32)) = v35
  intro hw
  refine z_iload_n hX dX13_isBetter_14 rfl (i := 3) rfl ?_
  obtain ⟨a37, n38, f39, r40, m41, i42, hw⟩ := hw
  refine z_iald hX dX13_isBetter_15 r40 m41 i42 ?_
  revert hw
  generalize f39 (Int32.toNatClampNeg x3) = v43
  intro hw
  refine z_isub hX dX13_isBetter_16 ?_
  refine z_istore hX dX13_isBetter_17 (i := 4) (Nat.le_of_ble_eq_true rfl) rfl (ls2 := [some (va_rf (some a0)), some (va_rf x1), some (.int x2), some (.int x3), some (.int (v21 - v43)), none]) rfl ?_
  refine z_iload hX dX13_isBetter_19 (i := 4) rfl ?_
  refine z_if_eq hX dX13_isBetter_21 (tgt := 35) rfl (fun c45 => ?_) (fun c45 => ?_)
  · have hw := hw.1 c45
    refine z_aload_n hX dX13_isBetter_35 rfl (i := 1) rfl ?_
    obtain ⟨a47, f48, v46, r49, m50, e51, hw⟩ := hw
    refine z_get hX zc14 (k := 0) dX13_isBetter_36 (Nat.le_of_ble_eq_true rfl) (zlkN hX "PackingDuel" q388) r49 m50 e51 ?_
    refine z_iconst hX (v := (3 : Int32)) dX13_isBetter_39 (by decide) ?_
    obtain ⟨a52, n53, f54, r55, m56, i57, hw⟩ := hw
    refine z_aald hX 5 dX13_isBetter_40 rfl r55 m56 i57 ?_
    revert hw
    generalize f54 (Int32.toNatClampNeg (3 : Int32)) = v58
    intro hw
    refine z_iload_n hX dX13_isBetter_41 rfl (i := 2) rfl ?_
    obtain ⟨a60, n61, f62, r63, m64, i65, hw⟩ := hw
    refine z_iald hX dX13_isBetter_42 r63 m64 i65 ?_
    revert hw
    generalize f62 (Int32.toNatClampNeg x2) = v66
    intro hw
    refine z_aload_n hX dX13_isBetter_43 rfl (i := 1) rfl ?_
    obtain ⟨a69, f70, v68, r71, m72, e73, hw⟩ := hw
    refine z_get hX zc14 (k := 0) dX13_isBetter_44 (Nat.le_of_ble_eq_true rfl) (zlkN hX "PackingDuel" q388) r71 m72 e73 ?_
    refine z_iconst hX (v := (3 : Int32)) dX13_isBetter_47 (by decide) ?_
    obtain ⟨a74, n75, f76, r77, m78, i79, hw⟩ := hw
    refine z_aald hX 5 dX13_isBetter_48 rfl r77 m78 i79 ?_
    revert hw
    generalize f76 (Int32.toNatClampNeg (3 : Int32)) = v80
    intro hw
    refine z_iload_n hX dX13_isBetter_49 rfl (i := 3) rfl ?_
    obtain ⟨a82, n83, f84, r85, m86, i87, hw⟩ := hw
    refine z_iald hX dX13_isBetter_50 r85 m86 i87 ?_
    revert hw
    generalize f84 (Int32.toNatClampNeg x3) = v88
    intro hw
    refine z_isub hX dX13_isBetter_51 ?_
    refine z_istore hX dX13_isBetter_52 (i := 5) (Nat.le_of_ble_eq_true rfl) rfl (ls2 := [some (va_rf (some a0)), some (va_rf x1), some (.int x2), some (.int x3), some (.int (v21 - v43)), some (.int (v66 - v88))]) rfl ?_
    refine z_iload hX dX13_isBetter_54 (i := 5) rfl ?_
    refine zJ_w (P := fun (j : Int32 → zS → Prop) => ∀ (p90 : Int32) (s91 : zS), j p90 s91 → zW X s91 94 [none, none, none, none, none, none] [.int p90]) hw (fun p90 s91 hw => ?_) (fun j92 hj92 hw => ?_)
    · exact z_ireturn hX hR dX13_isBetter_94 (zn_z hw.1) hw.2
    · refine z_if_eq hX dX13_isBetter_56 (tgt := 84) rfl (fun c93 => ?_) (fun c93 => ?_)
      · have hw := hw.1 c93
        refine z_iload_n hX dX13_isBetter_84 rfl (i := 2) rfl ?_
        refine z_iload_n hX dX13_isBetter_85 rfl (i := 3) rfl ?_
        refine z_icmp_ge hX dX13_isBetter_86 (tgt := 93) rfl (fun c94 => ?_) (fun c94 => ?_)
        · have hw := hw.1 c94
          refine z_iconst hX (v := (0 : Int32)) dX13_isBetter_93 (by decide) ?_
          refine z_sub (ls' := [none, none, none, none, none, none]) (zsN (zsN (zsN (zsN (zsN (zsN (zs0))))))) ?_
          exact hj92 _ _ hw
        · have hw := hw.2 c94
          refine z_iconst hX (v := (1 : Int32)) dX13_isBetter_89 (by decide) ?_
          refine z_goto hX dX13_isBetter_90 (tgt := 94) rfl ?_
          refine z_sub (ls' := [none, none, none, none, none, none]) (zsN (zsN (zsN (zsN (zsN (zsN (zs0))))))) ?_
          exact hj92 _ _ hw
      · have hw := hw.2 c93
        refine z_iload hX dX13_isBetter_59 (i := 5) rfl ?_
        refine zJ_w (P := fun (j : Int32 → zS → Prop) => ∀ (p95 : Int32) (s96 : zS), j p95 s96 → zW X s96 69 [some (va_rf (some a0)), none, none, none, none, none] [.int p95]) hw (fun p95 s96 hw => ?_) (fun j97 hj97 hw => ?_)
        · refine z_aload_n hX dX13_isBetter_69 rfl (i := 0) rfl ?_
          obtain ⟨a99, f100, v98, r101, m102, e103, hw⟩ := hw
          refine z_get hX zc17 (k := 0) dX13_isBetter_70 (Nat.le_of_ble_eq_true rfl) (zlk hX q428) r101 m102 e103 ?_
          refine z_icmp_eq hX dX13_isBetter_73 (tgt := 80) rfl (fun c104 => ?_) (fun c104 => ?_)
          · have hw := hw.1 c104
            refine z_iconst hX (v := (0 : Int32)) dX13_isBetter_80 (by decide) ?_
            refine z_goto hX dX13_isBetter_81 (tgt := 94) rfl ?_
            refine z_sub (ls' := [none, none, none, none, none, none]) (zsN (zsN (zsN (zsN (zsN (zsN (zs0))))))) ?_
            exact hj92 _ _ hw
          · have hw := hw.2 c104
            refine z_iconst hX (v := (1 : Int32)) dX13_isBetter_76 (by decide) ?_
            refine z_goto hX dX13_isBetter_77 (tgt := 94) rfl ?_
            refine z_sub (ls' := [none, none, none, none, none, none]) (zsN (zsN (zsN (zsN (zsN (zsN (zs0))))))) ?_
            exact hj92 _ _ hw
        · refine z_if_le hX dX13_isBetter_61 (tgt := 68) rfl (fun c105 => ?_) (fun c105 => ?_)
          · have hw := hw.1 c105
            refine z_iconst hX (v := (0 : Int32)) dX13_isBetter_68 (by decide) ?_
            refine z_sub (ls' := [some (va_rf (some a0)), none, none, none, none, none]) (zsS (zsN (zsN (zsN (zsN (zsN (zs0))))))) ?_
            exact hj97 _ _ hw
          · have hw := hw.2 c105
            refine z_iconst hX (v := (1 : Int32)) dX13_isBetter_64 (by decide) ?_
            refine z_goto hX dX13_isBetter_65 (tgt := 69) rfl ?_
            refine z_sub (ls' := [some (va_rf (some a0)), none, none, none, none, none]) (zsS (zsN (zsN (zsN (zsN (zsN (zs0))))))) ?_
            exact hj97 _ _ hw
  · have hw := hw.2 c45
    refine z_iload hX dX13_isBetter_24 (i := 4) rfl ?_
    refine zJ_w (P := fun (j : Int32 → zS → Prop) => ∀ (p106 : Int32) (s107 : zS), j p106 s107 → zW X s107 34 [none, none, none, none, none, none] [.int p106]) hw (fun p106 s107 hw => ?_) (fun j108 hj108 hw => ?_)
    · exact z_ireturn hX hR dX13_isBetter_34 (zn_z hw.1) hw.2
    · refine z_if_le hX dX13_isBetter_26 (tgt := 33) rfl (fun c109 => ?_) (fun c109 => ?_)
      · have hw := hw.1 c109
        refine z_iconst hX (v := (0 : Int32)) dX13_isBetter_33 (by decide) ?_
        refine z_sub (ls' := [none, none, none, none, none, none]) (zsN (zsN (zsN (zsN (zsN (zsN (zs0))))))) ?_
        exact hj108 _ _ hw
      · have hw := hw.2 c109
        refine z_iconst hX (v := (1 : Int32)) dX13_isBetter_29 (by decide) ?_
        refine z_goto hX dX13_isBetter_30 (tgt := 34) rfl ?_
        refine z_sub (ls' := [none, none, none, none, none, none]) (zsN (zsN (zsN (zsN (zsN (zsN (zs0))))))) ?_
        exact hj108 _ _ hw
abbrev cX14_init : ByteArray := prog_2_method_1_code
def yX14_init : MethodName := ⟨RX14, "<init>", "()V"⟩
theorem dX14_init_0 : decode cX14_init 0 = .ok (.aload_n 0, 1) := by decide +kernel
theorem dX14_init_1 : decode cX14_init 1 = .ok (.invokespecial 1, 3) := by decide +kernel
theorem dX14_init_4 : decode cX14_init 4 = .ok (.return_, 1) := by decide +kernel
/-- PackingDuel$ByResult.<init>()V -/
def zb473 (G : zPg) (C : zO) (args : List Value) (Q : zQ) (Y : zY) (σ : zS) : Prop := ∃ (a0 : Nat), args = [.ref a0] ∧ ((∃ a1, (some a0) = some a1 ∧ Q none σ))
set_option maxHeartbeats 4000000 in
theorem wk473 {l : Launch} {g : zG} {d : Nat} {C : zO} (hG : zGk g) (hC : zSound l g d C) {args : List Value} {Q : zQ} {Y : zY} {σ : zS} (hw : zb473 (zpg g) C args Q Y σ) : zMet l g (d + 1) (⟨"PackingDuel$ByResult", "<init>", "()V"⟩, Cond.code ⟨"PackingDuel$ByResult", "<init>", "()V"⟩ prog_2_method_1_code 1 (Option.none : Option FieldType)) args σ Q Y := by
  obtain ⟨a0, rfl, hw⟩ := hw
  refine zof hG (by decide +kernel) [false] ⟨rfl, trivial⟩ (Nat.le_of_ble_eq_true rfl) (ls := [some (va_rf (some a0))]) rfl ?_
  intro X hX hR hTb hd1 hd2 hl hg hnm
  subst hl
  subst hg
  have hd : zDep X d := ⟨hd1, hd2⟩
  refine z_aload_n hX dX14_init_0 rfl (i := 0) rfl ?_
  obtain ⟨a1, r2, hw⟩ := hw
  refine z_oinit hX hd dX14_init_1 q1706 q191 q192 r2 rfl (zcs8 (Nat.le_of_ble_eq_true rfl)) ?_
  exact z_return hX hR dX14_init_4 hw
abbrev cX14_compare : ByteArray := prog_2_method_3_code
def yX14_compare : MethodName := ⟨RX14, "compare", "(Ljava/lang/Object;Ljava/lang/Object;)I"⟩
def dkwX14_compare_0 : List UInt8 := [42, 43, 192, 0, 8, 44, 192, 0, 8, 182, 0, 22, 172]
abbrev dktX14_compare_0 : List UInt8 := dkwX14_compare_0 ++ []
theorem dksX14_compare_0 : cX14_compare.data.toList.drop 0 = dktX14_compare_0 := by decide +kernel
theorem dX14_compare_0 : decode cX14_compare 0 = .ok (.aload_n 0, 1) := dk_42 (dk_at dksX14_compare_0 0 rfl rfl)
theorem dX14_compare_1 : decode cX14_compare 1 = .ok (.aload_n 1, 1) := dk_43 (dk_at dksX14_compare_0 1 rfl rfl)
theorem dX14_compare_2 : decode cX14_compare 2 = .ok (.checkcast 8, 3) := dk_192 0 8 (dk_at dksX14_compare_0 2 rfl rfl)
theorem dX14_compare_5 : decode cX14_compare 5 = .ok (.aload_n 2, 1) := dk_44 (dk_at dksX14_compare_0 5 rfl rfl)
theorem dX14_compare_6 : decode cX14_compare 6 = .ok (.checkcast 8, 3) := dk_192 0 8 (dk_at dksX14_compare_0 6 rfl rfl)
theorem dX14_compare_9 : decode cX14_compare 9 = .ok (.invokevirtual 22, 3) := dk_182 0 22 (dk_at dksX14_compare_0 9 rfl rfl)
theorem dX14_compare_12 : decode cX14_compare 12 = .ok (.ireturn, 1) := dk_172 (dk_at dksX14_compare_0 12 rfl rfl)
/-- PackingDuel$ByResult.compare(Ljava/lang/Object;Ljava/lang/Object;)I -/
def zb474 (G : zPg) (C : zO) (args : List Value) (Q : zQ) (Y : zY) (σ : zS) : Prop := ∃ (a0 : Nat) (x1 : Option Nat) (x2 : Option Nat), args = [.ref a0, va_rf x1, va_rf x2] ∧ ((zcst σ x1 [20] ∧ (zcst σ x2 [20] ∧ zrc σ (some a0) 19 (fun a4 => zcl C 475 [.ref a4, va_rf x1, va_rf x2] Y σ (zqI (fun v1 s2 => Q (some (.int v1)) s2))))))
set_option maxHeartbeats 4000000 in
theorem wk474 {l : Launch} {g : zG} {d : Nat} {C : zO} (hG : zGk g) (hC : zSound l g d C) {args : List Value} {Q : zQ} {Y : zY} {σ : zS} (hw : zb474 (zpg g) C args Q Y σ) : zMet l g (d + 1) (⟨"PackingDuel$ByResult", "compare", "(Ljava/lang/Object;Ljava/lang/Object;)I"⟩, Cond.code ⟨"PackingDuel$ByResult", "compare", "(Ljava/lang/Object;Ljava/lang/Object;)I"⟩ prog_2_method_3_code 3 (Option.some FieldType.int)) args σ Q Y := by
  obtain ⟨a0, x1, x2, rfl, hw⟩ := hw
  refine zof hG (by decide +kernel) [false, false, false] ⟨rfl, (zc_rf _), (zc_rf _), trivial⟩ (Nat.le_of_ble_eq_true rfl) (ls := [some (va_rf (some a0)), some (va_rf x1), some (va_rf x2)]) rfl ?_
  intro X hX hR hTb hd1 hd2 hl hg hnm
  subst hl
  subst hg
  have hd : zDep X d := ⟨hd1, hd2⟩
  refine z_aload_n hX dX14_compare_0 rfl (i := 0) rfl ?_
  refine z_aload_n hX dX14_compare_1 rfl (i := 1) rfl ?_
  refine z_cast hX dX14_compare_2 q1782 (zfa1 ⟨_, rfl, Or.inl rfl⟩ (zfa0)) hw.1 ?_
  have hw := hw.2
  refine z_aload_n hX dX14_compare_5 rfl (i := 2) rfl ?_
  refine z_cast hX dX14_compare_6 q1782 (zfa1 ⟨_, rfl, Or.inl rfl⟩ (zfa0)) hw.1 ?_
  have hw := hw.2
  obtain ⟨a4, f5, r6, m7, hw⟩ := hw
  refine z_invV hX hd r6 (ci := 19) rfl rfl m7 dX14_compare_9 (hC 475 _ zm475 _ _ _ _ hw) q1783 q1784 q1785 zh38 q1786 q170 zn475 rfl (Nat.le_of_ble_eq_true rfl) (st := []) rfl (zcs8 (Nat.le_of_ble_eq_true rfl)) rfl (zkI (fun v1 s2 hw => ?_)) (zout hX hR hTb)
  exact z_ireturn hX hR dX14_compare_12 rfl hw
abbrev cX14_compare_2 : ByteArray := prog_2_method_2_code
def yX14_compare_2 : MethodName := ⟨RX14, "compare", "(LPackingDuel$Ranked;LPackingDuel$Ranked;)I"⟩
def dkwX14_compare_2_1 : List UInt8 := [167, 0, 14, 43, 180, 0, 19, 44, 180, 0, 19, 184, 0, 13, 172]
abbrev dktX14_compare_2_1 : List UInt8 := dkwX14_compare_2_1 ++ []
def dkwX14_compare_2_0 : List UInt8 := [43, 180, 0, 7, 44, 180, 0, 7, 159, 0, 17, 44, 180, 0, 7, 43, 180, 0, 7, 184, 0, 13]
abbrev dktX14_compare_2_0 : List UInt8 := dkwX14_compare_2_0 ++ dktX14_compare_2_1
theorem dksX14_compare_2_0 : cX14_compare_2.data.toList.drop 0 = dktX14_compare_2_0 := by decide +kernel
theorem dksX14_compare_2_1 : cX14_compare_2.data.toList.drop 22 = dktX14_compare_2_1 := dk_seg dksX14_compare_2_0 22 rfl rfl
theorem dX14_compare_2_0 : decode cX14_compare_2 0 = .ok (.aload_n 1, 1) := dk_43 (dk_at dksX14_compare_2_0 0 rfl rfl)
theorem dX14_compare_2_1 : decode cX14_compare_2 1 = .ok (.getfield 7, 3) := dk_180 0 7 (dk_at dksX14_compare_2_0 1 rfl rfl)
theorem dX14_compare_2_4 : decode cX14_compare_2 4 = .ok (.aload_n 2, 1) := dk_44 (dk_at dksX14_compare_2_0 4 rfl rfl)
theorem dX14_compare_2_5 : decode cX14_compare_2 5 = .ok (.getfield 7, 3) := dk_180 0 7 (dk_at dksX14_compare_2_0 5 rfl rfl)
theorem dX14_compare_2_8 : decode cX14_compare_2 8 = .ok (.if_icmp .eq 17, 3) := dk_159 0 17 (dk_at dksX14_compare_2_0 8 rfl rfl)
theorem dX14_compare_2_11 : decode cX14_compare_2 11 = .ok (.aload_n 2, 1) := dk_44 (dk_at dksX14_compare_2_0 11 rfl rfl)
theorem dX14_compare_2_12 : decode cX14_compare_2 12 = .ok (.getfield 7, 3) := dk_180 0 7 (dk_at dksX14_compare_2_0 12 rfl rfl)
theorem dX14_compare_2_15 : decode cX14_compare_2 15 = .ok (.aload_n 1, 1) := dk_43 (dk_at dksX14_compare_2_0 15 rfl rfl)
theorem dX14_compare_2_16 : decode cX14_compare_2 16 = .ok (.getfield 7, 3) := dk_180 0 7 (dk_at dksX14_compare_2_0 16 rfl rfl)
theorem dX14_compare_2_19 : decode cX14_compare_2 19 = .ok (.invokestatic 13, 3) := dk_184 0 13 (dk_at dksX14_compare_2_0 19 rfl rfl)
theorem dX14_compare_2_22 : decode cX14_compare_2 22 = .ok (.goto 14, 3) := dk_167 0 14 (dk_at dksX14_compare_2_1 0 rfl rfl)
theorem dX14_compare_2_25 : decode cX14_compare_2 25 = .ok (.aload_n 1, 1) := dk_43 (dk_at dksX14_compare_2_1 3 rfl rfl)
theorem dX14_compare_2_26 : decode cX14_compare_2 26 = .ok (.getfield 19, 3) := dk_180 0 19 (dk_at dksX14_compare_2_1 4 rfl rfl)
theorem dX14_compare_2_29 : decode cX14_compare_2 29 = .ok (.aload_n 2, 1) := dk_44 (dk_at dksX14_compare_2_1 7 rfl rfl)
theorem dX14_compare_2_30 : decode cX14_compare_2 30 = .ok (.getfield 19, 3) := dk_180 0 19 (dk_at dksX14_compare_2_1 8 rfl rfl)
theorem dX14_compare_2_33 : decode cX14_compare_2 33 = .ok (.invokestatic 13, 3) := dk_184 0 13 (dk_at dksX14_compare_2_1 11 rfl rfl)
theorem dX14_compare_2_36 : decode cX14_compare_2 36 = .ok (.ireturn, 1) := dk_172 (dk_at dksX14_compare_2_1 14 rfl rfl)
/-- PackingDuel$ByResult.compare(LPackingDuel$Ranked;LPackingDuel$Ranked;)I -/
def zb475 (G : zPg) (C : zO) (args : List Value) (Q : zQ) (Y : zY) (σ : zS) : Prop := ∃ (a0 : Nat) (x1 : Option Nat) (x2 : Option Nat), args = [.ref a0, va_rf x1, va_rf x2] ∧ (zgI σ x1 20 1 (fun v1 => zgI σ x2 20 1 (fun v7 => zJ (fun (p13 : Int32) (s14 : zS) => Q (some (.int p13)) s14) (fun (j15 : Int32 → zS → Prop) => ((v1 = v7) → zgI σ x1 20 0 (fun v17 => zgI σ x2 20 0 (fun v23 => zcl C 438 [.int v17, .int v23] Y σ (zqI (fun v29 s30 => j15 v29 s30))))) ∧ ((¬ v1 = v7) → zgI σ x2 20 1 (fun v32 => zgI σ x1 20 1 (fun v38 => zcl C 438 [.int v32, .int v38] Y σ (zqI (fun v44 s45 => j15 v44 s45)))))))))
set_option maxHeartbeats 4000000 in
theorem wk475 {l : Launch} {g : zG} {d : Nat} {C : zO} (hG : zGk g) (hC : zSound l g d C) {args : List Value} {Q : zQ} {Y : zY} {σ : zS} (hw : zb475 (zpg g) C args Q Y σ) : zMet l g (d + 1) (⟨"PackingDuel$ByResult", "compare", "(LPackingDuel$Ranked;LPackingDuel$Ranked;)I"⟩, Cond.code ⟨"PackingDuel$ByResult", "compare", "(LPackingDuel$Ranked;LPackingDuel$Ranked;)I"⟩ prog_2_method_2_code 3 (Option.some FieldType.int)) args σ Q Y := by
  obtain ⟨a0, x1, x2, rfl, hw⟩ := hw
  refine zof hG (by decide +kernel) [false, false, false] ⟨rfl, (zc_rf _), (zc_rf _), trivial⟩ (Nat.le_of_ble_eq_true rfl) (ls := [some (va_rf (some a0)), some (va_rf x1), some (va_rf x2)]) rfl ?_
  intro X hX hR hTb hd1 hd2 hl hg hnm
  subst hl
  subst hg
  have hd : zDep X d := ⟨hd1, hd2⟩
  refine z_aload_n hX dX14_compare_2_0 rfl (i := 1) rfl ?_
  obtain ⟨a2, f3, v1, r4, m5, e6, hw⟩ := hw
  refine z_get hX zc20 (k := 1) dX14_compare_2_1 (Nat.le_of_ble_eq_true rfl) (zlkN hX "PackingDuel" q1745) r4 m5 e6 ?_
  refine z_aload_n hX dX14_compare_2_4 rfl (i := 2) rfl ?_
  obtain ⟨a8, f9, v7, r10, m11, e12, hw⟩ := hw
  refine z_get hX zc20 (k := 1) dX14_compare_2_5 (Nat.le_of_ble_eq_true rfl) (zlkN hX "PackingDuel" q1745) r10 m11 e12 ?_
  refine zJ_w (P := fun (j : Int32 → zS → Prop) => ∀ (p13 : Int32) (s14 : zS), j p13 s14 → zW X s14 36 [none, none, none] [.int p13]) hw (fun p13 s14 hw => ?_) (fun j15 hj15 hw => ?_)
  · exact z_ireturn hX hR dX14_compare_2_36 rfl hw
  · refine z_icmp_eq hX dX14_compare_2_8 (tgt := 25) rfl (fun c16 => ?_) (fun c16 => ?_)
    · have hw := hw.1 c16
      refine z_aload_n hX dX14_compare_2_25 rfl (i := 1) rfl ?_
      obtain ⟨a18, f19, v17, r20, m21, e22, hw⟩ := hw
      refine z_get hX zc20 (k := 0) dX14_compare_2_26 (Nat.le_of_ble_eq_true rfl) (zlkN hX "PackingDuel" q1742) r20 m21 e22 ?_
      refine z_aload_n hX dX14_compare_2_29 rfl (i := 2) rfl ?_
      obtain ⟨a24, f25, v23, r26, m27, e28, hw⟩ := hw
      refine z_get hX zc20 (k := 0) dX14_compare_2_30 (Nat.le_of_ble_eq_true rfl) (zlkN hX "PackingDuel" q1742) r26 m27 e28 ?_
      refine z_invS hX hd dX14_compare_2_33 (hC 438 _ zm438 _ _ _ _ hw) q1787 q1788 zh24 q1789 q154 zn438 rfl (Nat.le_of_ble_eq_true rfl) (st := []) rfl (zcs8 (Nat.le_of_ble_eq_true rfl)) rfl (zkI (fun v29 s30 hw => ?_)) (zout hX hR hTb)
      refine z_sub (ls' := [none, none, none]) (zsN (zsN (zsN (zs0)))) ?_
      exact hj15 _ _ hw
    · have hw := hw.2 c16
      refine z_aload_n hX dX14_compare_2_11 rfl (i := 2) rfl ?_
      obtain ⟨a33, f34, v32, r35, m36, e37, hw⟩ := hw
      refine z_get hX zc20 (k := 1) dX14_compare_2_12 (Nat.le_of_ble_eq_true rfl) (zlkN hX "PackingDuel" q1745) r35 m36 e37 ?_
      refine z_aload_n hX dX14_compare_2_15 rfl (i := 1) rfl ?_
      obtain ⟨a39, f40, v38, r41, m42, e43, hw⟩ := hw
      refine z_get hX zc20 (k := 1) dX14_compare_2_16 (Nat.le_of_ble_eq_true rfl) (zlkN hX "PackingDuel" q1745) r41 m42 e43 ?_
      refine z_invS hX hd dX14_compare_2_19 (hC 438 _ zm438 _ _ _ _ hw) q1787 q1788 zh24 q1789 q154 zn438 rfl (Nat.le_of_ble_eq_true rfl) (st := []) rfl (zcs8 (Nat.le_of_ble_eq_true rfl)) rfl (zkI (fun v44 s45 hw => ?_)) (zout hX hR hTb)
      refine z_goto hX dX14_compare_2_22 (tgt := 36) rfl ?_
      refine z_sub (ls' := [none, none, none]) (zsN (zsN (zsN (zs0)))) ?_
      exact hj15 _ _ hw
abbrev cX15_init : ByteArray := prog_17_method_1_code
def yX15_init : MethodName := ⟨RX15, "<init>", "(II)V"⟩
def dkwX15_init_0 : List UInt8 := [42, 183, 0, 1, 42, 27, 181, 0, 7, 42, 28, 181, 0, 13, 177]
abbrev dktX15_init_0 : List UInt8 := dkwX15_init_0 ++ []
theorem dksX15_init_0 : cX15_init.data.toList.drop 0 = dktX15_init_0 := by decide +kernel
theorem dX15_init_0 : decode cX15_init 0 = .ok (.aload_n 0, 1) := dk_42 (dk_at dksX15_init_0 0 rfl rfl)
theorem dX15_init_1 : decode cX15_init 1 = .ok (.invokespecial 1, 3) := dk_183 0 1 (dk_at dksX15_init_0 1 rfl rfl)
theorem dX15_init_4 : decode cX15_init 4 = .ok (.aload_n 0, 1) := dk_42 (dk_at dksX15_init_0 4 rfl rfl)
theorem dX15_init_5 : decode cX15_init 5 = .ok (.iload_n 1, 1) := dk_27 (dk_at dksX15_init_0 5 rfl rfl)
theorem dX15_init_6 : decode cX15_init 6 = .ok (.putfield 7, 3) := dk_181 0 7 (dk_at dksX15_init_0 6 rfl rfl)
theorem dX15_init_9 : decode cX15_init 9 = .ok (.aload_n 0, 1) := dk_42 (dk_at dksX15_init_0 9 rfl rfl)
theorem dX15_init_10 : decode cX15_init 10 = .ok (.iload_n 2, 1) := dk_28 (dk_at dksX15_init_0 10 rfl rfl)
theorem dX15_init_11 : decode cX15_init 11 = .ok (.putfield 13, 3) := dk_181 0 13 (dk_at dksX15_init_0 11 rfl rfl)
theorem dX15_init_14 : decode cX15_init 14 = .ok (.return_, 1) := dk_177 (dk_at dksX15_init_0 14 rfl rfl)
/-- PackingDuel$Ranked.<init>(II)V -/
def zb476 (G : zPg) (C : zO) (args : List Value) (Q : zQ) (Y : zY) (σ : zS) : Prop := ∃ (a0 : Nat) (x1 : Int32) (x2 : Int32), args = [.ref a0, .int x1, .int x2] ∧ ((∃ a1, (some a0) = some a1 ∧ zput σ G.1 (some a0) 20 0 (.int x1) (fun s3 => zput s3 G.1 (some a0) 20 1 (.int x2) (fun s11 => Q none s11))))
set_option maxHeartbeats 4000000 in
theorem wk476 {l : Launch} {g : zG} {d : Nat} {C : zO} (hG : zGk g) (hC : zSound l g d C) {args : List Value} {Q : zQ} {Y : zY} {σ : zS} (hw : zb476 (zpg g) C args Q Y σ) : zMet l g (d + 1) (⟨"PackingDuel$Ranked", "<init>", "(II)V"⟩, Cond.code ⟨"PackingDuel$Ranked", "<init>", "(II)V"⟩ prog_17_method_1_code 3 (Option.none : Option FieldType)) args σ Q Y := by
  obtain ⟨a0, x1, x2, rfl, hw⟩ := hw
  refine zof hG (by decide +kernel) [false, false, false] ⟨rfl, rfl, rfl, trivial⟩ (Nat.le_of_ble_eq_true rfl) (ls := [some (va_rf (some a0)), some (.int x1), some (.int x2)]) rfl ?_
  intro X hX hR hTb hd1 hd2 hl hg hnm
  subst hl
  subst hg
  have hd : zDep X d := ⟨hd1, hd2⟩
  refine z_aload_n hX dX15_init_0 rfl (i := 0) rfl ?_
  obtain ⟨a1, r2, hw⟩ := hw
  refine z_oinit hX hd dX15_init_1 q1740 q191 q192 r2 rfl (zcs8 (Nat.le_of_ble_eq_true rfl)) ?_
  refine z_aload_n hX dX15_init_4 rfl (i := 0) rfl ?_
  refine z_iload_n hX dX15_init_5 rfl (i := 1) rfl ?_
  obtain ⟨a5, f6, r7, g8, m9, l10, hw⟩ := hw
  refine z_putF hX zc20 (k := 0) dX15_init_6 (Nat.le_of_ble_eq_true rfl) q1741 rfl hnm rfl rfl rfl r7 g8 m9 l10 (z_nm (fun s3 e4 => ?_))
  have hw := hw s3 e4
  refine z_aload_n hX dX15_init_9 rfl (i := 0) rfl ?_
  refine z_iload_n hX dX15_init_10 rfl (i := 2) rfl ?_
  obtain ⟨a13, f14, r15, g16, m17, l18, hw⟩ := hw
  refine z_putF hX zc20 (k := 1) dX15_init_11 (Nat.le_of_ble_eq_true rfl) q1744 rfl hnm rfl rfl rfl r15 g16 m17 l18 (z_nm (fun s11 e12 => ?_))
  have hw := hw s11 e12
  exact z_return hX hR dX15_init_14 hw
abbrev cX16_isBetter : ByteArray := prog_4_method_2_code
def yX16_isBetter : MethodName := ⟨RX16, "isBetter", "(LPackingDuel$Sums;II)Z"⟩
def dkwX16_isBetter_1 : List UInt8 := [21, 4, 158, 0, 7, 4, 167, 0, 17, 3, 167, 0, 13, 28, 29, 162, 0, 7, 4, 167, 0, 4, 3, 172]
abbrev dktX16_isBetter_1 : List UInt8 := dkwX16_isBetter_1 ++ []
def dkwX16_isBetter_0 : List UInt8 := [43, 180, 0, 9, 6, 50, 28, 46, 43, 180, 0, 9, 6, 50, 29, 46, 100, 54, 4, 21, 4, 153, 0, 16]
abbrev dktX16_isBetter_0 : List UInt8 := dkwX16_isBetter_0 ++ dktX16_isBetter_1
theorem dksX16_isBetter_0 : cX16_isBetter.data.toList.drop 0 = dktX16_isBetter_0 := by decide +kernel
theorem dksX16_isBetter_1 : cX16_isBetter.data.toList.drop 24 = dktX16_isBetter_1 := dk_seg dksX16_isBetter_0 24 rfl rfl
theorem dX16_isBetter_0 : decode cX16_isBetter 0 = .ok (.aload_n 1, 1) := dk_43 (dk_at dksX16_isBetter_0 0 rfl rfl)
theorem dX16_isBetter_1 : decode cX16_isBetter 1 = .ok (.getfield 9, 3) := dk_180 0 9 (dk_at dksX16_isBetter_0 1 rfl rfl)
theorem dX16_isBetter_4 : decode cX16_isBetter 4 = .ok (.iconst 3, 1) := dk_6 (dk_at dksX16_isBetter_0 4 rfl rfl)
theorem dX16_isBetter_5 : decode cX16_isBetter 5 = .ok (.aaload, 1) := dk_50 (dk_at dksX16_isBetter_0 5 rfl rfl)
theorem dX16_isBetter_6 : decode cX16_isBetter 6 = .ok (.iload_n 2, 1) := dk_28 (dk_at dksX16_isBetter_0 6 rfl rfl)
theorem dX16_isBetter_7 : decode cX16_isBetter 7 = .ok (.iaload, 1) := dk_46 (dk_at dksX16_isBetter_0 7 rfl rfl)
theorem dX16_isBetter_8 : decode cX16_isBetter 8 = .ok (.aload_n 1, 1) := dk_43 (dk_at dksX16_isBetter_0 8 rfl rfl)
theorem dX16_isBetter_9 : decode cX16_isBetter 9 = .ok (.getfield 9, 3) := dk_180 0 9 (dk_at dksX16_isBetter_0 9 rfl rfl)
theorem dX16_isBetter_12 : decode cX16_isBetter 12 = .ok (.iconst 3, 1) := dk_6 (dk_at dksX16_isBetter_0 12 rfl rfl)
theorem dX16_isBetter_13 : decode cX16_isBetter 13 = .ok (.aaload, 1) := dk_50 (dk_at dksX16_isBetter_0 13 rfl rfl)
theorem dX16_isBetter_14 : decode cX16_isBetter 14 = .ok (.iload_n 3, 1) := dk_29 (dk_at dksX16_isBetter_0 14 rfl rfl)
theorem dX16_isBetter_15 : decode cX16_isBetter 15 = .ok (.iaload, 1) := dk_46 (dk_at dksX16_isBetter_0 15 rfl rfl)
theorem dX16_isBetter_16 : decode cX16_isBetter 16 = .ok (.isub, 1) := dk_100 (dk_at dksX16_isBetter_0 16 rfl rfl)
theorem dX16_isBetter_17 : decode cX16_isBetter 17 = .ok (.istore 4, 2) := dk_54 4 (dk_at dksX16_isBetter_0 17 rfl rfl)
theorem dX16_isBetter_19 : decode cX16_isBetter 19 = .ok (.iload 4, 2) := dk_21 4 (dk_at dksX16_isBetter_0 19 rfl rfl)
theorem dX16_isBetter_21 : decode cX16_isBetter 21 = .ok (.ifCond .eq 16, 3) := dk_153 0 16 (dk_at dksX16_isBetter_0 21 rfl rfl)
theorem dX16_isBetter_24 : decode cX16_isBetter 24 = .ok (.iload 4, 2) := dk_21 4 (dk_at dksX16_isBetter_1 0 rfl rfl)
theorem dX16_isBetter_26 : decode cX16_isBetter 26 = .ok (.ifCond .le 7, 3) := dk_158 0 7 (dk_at dksX16_isBetter_1 2 rfl rfl)
theorem dX16_isBetter_29 : decode cX16_isBetter 29 = .ok (.iconst 1, 1) := dk_4 (dk_at dksX16_isBetter_1 5 rfl rfl)
theorem dX16_isBetter_30 : decode cX16_isBetter 30 = .ok (.goto 17, 3) := dk_167 0 17 (dk_at dksX16_isBetter_1 6 rfl rfl)
theorem dX16_isBetter_33 : decode cX16_isBetter 33 = .ok (.iconst 0, 1) := dk_3 (dk_at dksX16_isBetter_1 9 rfl rfl)
theorem dX16_isBetter_34 : decode cX16_isBetter 34 = .ok (.goto 13, 3) := dk_167 0 13 (dk_at dksX16_isBetter_1 10 rfl rfl)
theorem dX16_isBetter_37 : decode cX16_isBetter 37 = .ok (.iload_n 2, 1) := dk_28 (dk_at dksX16_isBetter_1 13 rfl rfl)
theorem dX16_isBetter_38 : decode cX16_isBetter 38 = .ok (.iload_n 3, 1) := dk_29 (dk_at dksX16_isBetter_1 14 rfl rfl)
theorem dX16_isBetter_39 : decode cX16_isBetter 39 = .ok (.if_icmp .ge 7, 3) := dk_162 0 7 (dk_at dksX16_isBetter_1 15 rfl rfl)
theorem dX16_isBetter_42 : decode cX16_isBetter 42 = .ok (.iconst 1, 1) := dk_4 (dk_at dksX16_isBetter_1 18 rfl rfl)
theorem dX16_isBetter_43 : decode cX16_isBetter 43 = .ok (.goto 4, 3) := dk_167 0 4 (dk_at dksX16_isBetter_1 19 rfl rfl)
theorem dX16_isBetter_46 : decode cX16_isBetter 46 = .ok (.iconst 0, 1) := dk_3 (dk_at dksX16_isBetter_1 22 rfl rfl)
theorem dX16_isBetter_47 : decode cX16_isBetter 47 = .ok (.ireturn, 1) := dk_172 (dk_at dksX16_isBetter_1 23 rfl rfl)
/-- PackingDuel$Cruel.isBetter(LPackingDuel$Sums;II)Z -/
def zb492 (G : zPg) (C : zO) (args : List Value) (Q : zQ) (Y : zY) (σ : zS) : Prop := ∃ (a0 : Nat) (x1 : Option Nat) (x2 : Int32) (x3 : Int32), args = [.ref a0, va_rf x1, .int x2, .int x3] ∧ (zgR σ x1 14 0 (fun v1 => zaR σ 5 v1 (3 : Int32) (fun v13 => zaI σ 0 v13 x2 (fun v21 => zgR σ x1 14 0 (fun v23 => zaR σ 5 v23 (3 : Int32) (fun v35 => zaI σ 0 v35 x3 (fun v43 => zJ (fun (p45 : Int32) (s46 : zS) => zbool p45 ∧ Q (some (.int p45)) s46) (fun (j47 : Int32 → zS → Prop) => (((v21 - v43) = 0) → ((x3 ≤ x2) → j47 (0 : Int32) σ) ∧ ((¬ x3 ≤ x2) → j47 (1 : Int32) σ)) ∧ ((¬ (v21 - v43) = 0) → (((v21 - v43) ≤ 0) → j47 (0 : Int32) σ) ∧ ((¬ (v21 - v43) ≤ 0) → j47 (1 : Int32) σ))))))))))
set_option maxHeartbeats 4000000 in
theorem wk492 {l : Launch} {g : zG} {d : Nat} {C : zO} (hG : zGk g) (hC : zSound l g d C) {args : List Value} {Q : zQ} {Y : zY} {σ : zS} (hw : zb492 (zpg g) C args Q Y σ) : zMet l g (d + 1) (⟨"PackingDuel$Cruel", "isBetter", "(LPackingDuel$Sums;II)Z"⟩, Cond.code ⟨"PackingDuel$Cruel", "isBetter", "(LPackingDuel$Sums;II)Z"⟩ prog_4_method_2_code 5 (Option.some FieldType.boolean)) args σ Q Y := by
  obtain ⟨a0, x1, x2, x3, rfl, hw⟩ := hw
  refine zof hG (by decide +kernel) [false, false, false, false] ⟨rfl, (zc_rf _), rfl, rfl, trivial⟩ (Nat.le_of_ble_eq_true rfl) (ls := [some (va_rf (some a0)), some (va_rf x1), some (.int x2), some (.int x3), none]) rfl ?_
  intro X hX hR hTb hd1 hd2 hl hg hnm
  subst hl
  subst hg
  have hd : zDep X d := ⟨hd1, hd2⟩
  refine z_aload_n hX dX16_isBetter_0 rfl (i := 1) rfl ?_
  obtain ⟨a2, f3, v1, r4, m5, e6, hw⟩ := hw
  refine z_get hX zc14 (k := 0) dX16_isBetter_1 (Nat.le_of_ble_eq_true rfl) (zlkN hX "PackingDuel" q387) r4 m5 e6 ?_
  refine z_iconst hX (v := (3 : Int32)) dX16_isBetter_4 (by decide) ?_
  obtain ⟨a7, n8, f9, r10, m11, i12, hw⟩ := hw
  refine z_aald hX 5 dX16_isBetter_5 rfl r10 m11 i12 ?_
  revert hw
  generalize f9 (Int32.toNatClampNeg (3 : Int32)) = v13
  intro hw
  refine z_iload_n hX dX16_isBetter_6 rfl (i := 2) rfl ?_
  obtain ⟨a15, n16, f17, r18, m19, i20, hw⟩ := hw
  refine z_iald hX dX16_isBetter_7 r18 m19 i20 ?_
  revert hw
  generalize f17 (Int32.toNatClampNeg x2) = v21
  intro hw
  refine z_aload_n hX dX16_isBetter_8 rfl (i := 1) rfl ?_
  obtain ⟨a24, f25, v23, r26, m27, e28, hw⟩ := hw
  refine z_get hX zc14 (k := 0) dX16_isBetter_9 (Nat.le_of_ble_eq_true rfl) (zlkN hX "PackingDuel" q387) r26 m27 e28 ?_
  refine z_iconst hX (v := (3 : Int32)) dX16_isBetter_12 (by decide) ?_
  obtain ⟨a29, n30, f31, r32, m33, i34, hw⟩ := hw
  refine z_aald hX 5 dX16_isBetter_13 rfl r32 m33 i34 ?_
  revert hw
  generalize f31 (Int32.toNatClampNeg (3 : Int32)) = v35
  intro hw
  refine z_iload_n hX dX16_isBetter_14 rfl (i := 3) rfl ?_
  obtain ⟨a37, n38, f39, r40, m41, i42, hw⟩ := hw
  refine z_iald hX dX16_isBetter_15 r40 m41 i42 ?_
  revert hw
  generalize f39 (Int32.toNatClampNeg x3) = v43
  intro hw
  refine z_isub hX dX16_isBetter_16 ?_
  refine z_istore hX dX16_isBetter_17 (i := 4) (Nat.le_of_ble_eq_true rfl) rfl (ls2 := [some (va_rf (some a0)), some (va_rf x1), some (.int x2), some (.int x3), some (.int (v21 - v43))]) rfl ?_
  refine z_iload hX dX16_isBetter_19 (i := 4) rfl ?_
  refine zJ_w (P := fun (j : Int32 → zS → Prop) => ∀ (p45 : Int32) (s46 : zS), j p45 s46 → zW X s46 47 [none, none, none, none, none] [.int p45]) hw (fun p45 s46 hw => ?_) (fun j47 hj47 hw => ?_)
  · exact z_ireturn hX hR dX16_isBetter_47 (zn_z hw.1) hw.2
  · refine z_if_eq hX dX16_isBetter_21 (tgt := 37) rfl (fun c48 => ?_) (fun c48 => ?_)
    · have hw := hw.1 c48
      refine z_iload_n hX dX16_isBetter_37 rfl (i := 2) rfl ?_
      refine z_iload_n hX dX16_isBetter_38 rfl (i := 3) rfl ?_
      refine z_icmp_ge hX dX16_isBetter_39 (tgt := 46) rfl (fun c49 => ?_) (fun c49 => ?_)
      · have hw := hw.1 c49
        refine z_iconst hX (v := (0 : Int32)) dX16_isBetter_46 (by decide) ?_
        refine z_sub (ls' := [none, none, none, none, none]) (zsN (zsN (zsN (zsN (zsN (zs0)))))) ?_
        exact hj47 _ _ hw
      · have hw := hw.2 c49
        refine z_iconst hX (v := (1 : Int32)) dX16_isBetter_42 (by decide) ?_
        refine z_goto hX dX16_isBetter_43 (tgt := 47) rfl ?_
        refine z_sub (ls' := [none, none, none, none, none]) (zsN (zsN (zsN (zsN (zsN (zs0)))))) ?_
        exact hj47 _ _ hw
    · have hw := hw.2 c48
      refine z_iload hX dX16_isBetter_24 (i := 4) rfl ?_
      refine z_if_le hX dX16_isBetter_26 (tgt := 33) rfl (fun c50 => ?_) (fun c50 => ?_)
      · have hw := hw.1 c50
        refine z_iconst hX (v := (0 : Int32)) dX16_isBetter_33 (by decide) ?_
        refine z_goto hX dX16_isBetter_34 (tgt := 47) rfl ?_
        refine z_sub (ls' := [none, none, none, none, none]) (zsN (zsN (zsN (zsN (zsN (zs0)))))) ?_
        exact hj47 _ _ hw
      · have hw := hw.2 c50
        refine z_iconst hX (v := (1 : Int32)) dX16_isBetter_29 (by decide) ?_
        refine z_goto hX dX16_isBetter_30 (tgt := 47) rfl ?_
        refine z_sub (ls' := [none, none, none, none, none]) (zsN (zsN (zsN (zsN (zsN (zs0)))))) ?_
        exact hj47 _ _ hw
abbrev cX16_init : ByteArray := prog_4_method_1_code
def yX16_init : MethodName := ⟨RX16, "<init>", "()V"⟩
theorem dX16_init_0 : decode cX16_init 0 = .ok (.aload_n 0, 1) := by decide +kernel
theorem dX16_init_1 : decode cX16_init 1 = .ok (.invokespecial 3, 3) := by decide +kernel
theorem dX16_init_4 : decode cX16_init 4 = .ok (.return_, 1) := by decide +kernel
/-- PackingDuel$Cruel.<init>()V -/
def zb493 (G : zPg) (C : zO) (args : List Value) (Q : zQ) (Y : zY) (σ : zS) : Prop := ∃ (a0 : Nat), args = [.ref a0] ∧ ((∃ a4, (some a0) = some a4 ∧ zcl C 458 [.ref a4] Y σ (zqV (fun s2 => Q none s2))))
set_option maxHeartbeats 4000000 in
theorem wk493 {l : Launch} {g : zG} {d : Nat} {C : zO} (hG : zGk g) (hC : zSound l g d C) {args : List Value} {Q : zQ} {Y : zY} {σ : zS} (hw : zb493 (zpg g) C args Q Y σ) : zMet l g (d + 1) (⟨"PackingDuel$Cruel", "<init>", "()V"⟩, Cond.code ⟨"PackingDuel$Cruel", "<init>", "()V"⟩ prog_4_method_1_code 1 (Option.none : Option FieldType)) args σ Q Y := by
  obtain ⟨a0, rfl, hw⟩ := hw
  refine zof hG (by decide +kernel) [false] ⟨rfl, trivial⟩ (Nat.le_of_ble_eq_true rfl) (ls := [some (va_rf (some a0))]) rfl ?_
  intro X hX hR hTb hd1 hd2 hl hg hnm
  subst hl
  subst hg
  have hd : zDep X d := ⟨hd1, hd2⟩
  refine z_aload_n hX dX16_init_0 rfl (i := 0) rfl ?_
  obtain ⟨a4, r5, hw⟩ := hw
  refine z_invIN hX hd r5 dX16_init_1 (hC 458 _ zm458 _ _ _ _ hw) q465 q425 rfl zh34 q426 q166 zn458 rfl (Nat.le_of_ble_eq_true rfl) (st := []) rfl (zcs8 (Nat.le_of_ble_eq_true rfl)) rfl (zkV (fun s2 hw => ?_)) (zout hX hR hTb)
  exact z_return hX hR dX16_init_4 hw
abbrev cX17_init : ByteArray := prog_11_method_1_code
def yX17_init : MethodName := ⟨RX17, "<init>", "(II)V"⟩
def dkwX17_init_1 : List UInt8 := [177]
abbrev dktX17_init_1 : List UInt8 := dkwX17_init_1 ++ []
def dkwX17_init_0 : List UInt8 := [42, 183, 0, 1, 42, 27, 181, 0, 7, 42, 28, 181, 0, 13, 42, 27, 28, 197, 0, 16, 2, 181, 0, 18]
abbrev dktX17_init_0 : List UInt8 := dkwX17_init_0 ++ dktX17_init_1
theorem dksX17_init_0 : cX17_init.data.toList.drop 0 = dktX17_init_0 := by decide +kernel
theorem dksX17_init_1 : cX17_init.data.toList.drop 24 = dktX17_init_1 := dk_seg dksX17_init_0 24 rfl rfl
theorem dX17_init_0 : decode cX17_init 0 = .ok (.aload_n 0, 1) := dk_42 (dk_at dksX17_init_0 0 rfl rfl)
theorem dX17_init_1 : decode cX17_init 1 = .ok (.invokespecial 1, 3) := dk_183 0 1 (dk_at dksX17_init_0 1 rfl rfl)
theorem dX17_init_4 : decode cX17_init 4 = .ok (.aload_n 0, 1) := dk_42 (dk_at dksX17_init_0 4 rfl rfl)
theorem dX17_init_5 : decode cX17_init 5 = .ok (.iload_n 1, 1) := dk_27 (dk_at dksX17_init_0 5 rfl rfl)
theorem dX17_init_6 : decode cX17_init 6 = .ok (.putfield 7, 3) := dk_181 0 7 (dk_at dksX17_init_0 6 rfl rfl)
theorem dX17_init_9 : decode cX17_init 9 = .ok (.aload_n 0, 1) := dk_42 (dk_at dksX17_init_0 9 rfl rfl)
theorem dX17_init_10 : decode cX17_init 10 = .ok (.iload_n 2, 1) := dk_28 (dk_at dksX17_init_0 10 rfl rfl)
theorem dX17_init_11 : decode cX17_init 11 = .ok (.putfield 13, 3) := dk_181 0 13 (dk_at dksX17_init_0 11 rfl rfl)
theorem dX17_init_14 : decode cX17_init 14 = .ok (.aload_n 0, 1) := dk_42 (dk_at dksX17_init_0 14 rfl rfl)
theorem dX17_init_15 : decode cX17_init 15 = .ok (.iload_n 1, 1) := dk_27 (dk_at dksX17_init_0 15 rfl rfl)
theorem dX17_init_16 : decode cX17_init 16 = .ok (.iload_n 2, 1) := dk_28 (dk_at dksX17_init_0 16 rfl rfl)
theorem dX17_init_17 : decode cX17_init 17 = .ok (.multianewarray 16 2, 4) := by decide +kernel
theorem dX17_init_21 : decode cX17_init 21 = .ok (.putfield 18, 3) := dk_181 0 18 (dk_at dksX17_init_0 21 rfl rfl)
theorem dX17_init_24 : decode cX17_init 24 = .ok (.return_, 1) := dk_177 (dk_at dksX17_init_1 0 rfl rfl)
/-- PackingDuel$Matrix.<init>(II)V -/
def zb494 (G : zPg) (C : zO) (args : List Value) (Q : zQ) (Y : zY) (σ : zS) : Prop := ∃ (a0 : Nat) (x1 : Int32) (x2 : Int32), args = [.ref a0, .int x1, .int x2] ∧ ((∃ a1, (some a0) = some a1 ∧ zput σ G.1 (some a0) 22 0 (.int x1) (fun s3 => zput s3 G.1 (some a0) 22 1 (.int x2) (fun s11 => znewM s11 x1 x2 (fun s19 => zput s19 G.1 (some a0) 22 2 (va_rf (some s11.2.1)) (fun s20 => Q none s20))))))
set_option maxHeartbeats 4000000 in
theorem wk494 {l : Launch} {g : zG} {d : Nat} {C : zO} (hG : zGk g) (hC : zSound l g d C) {args : List Value} {Q : zQ} {Y : zY} {σ : zS} (hw : zb494 (zpg g) C args Q Y σ) : zMet l g (d + 1) (⟨"PackingDuel$Matrix", "<init>", "(II)V"⟩, Cond.code ⟨"PackingDuel$Matrix", "<init>", "(II)V"⟩ prog_11_method_1_code 3 (Option.none : Option FieldType)) args σ Q Y := by
  obtain ⟨a0, x1, x2, rfl, hw⟩ := hw
  refine zof hG (by decide +kernel) [false, false, false] ⟨rfl, rfl, rfl, trivial⟩ (Nat.le_of_ble_eq_true rfl) (ls := [some (va_rf (some a0)), some (.int x1), some (.int x2)]) rfl ?_
  intro X hX hR hTb hd1 hd2 hl hg hnm
  subst hl
  subst hg
  have hd : zDep X d := ⟨hd1, hd2⟩
  refine z_aload_n hX dX17_init_0 rfl (i := 0) rfl ?_
  obtain ⟨a1, r2, hw⟩ := hw
  refine z_oinit hX hd dX17_init_1 q494 q191 q192 r2 rfl (zcs8 (Nat.le_of_ble_eq_true rfl)) ?_
  refine z_aload_n hX dX17_init_4 rfl (i := 0) rfl ?_
  refine z_iload_n hX dX17_init_5 rfl (i := 1) rfl ?_
  obtain ⟨a5, f6, r7, g8, m9, l10, hw⟩ := hw
  refine z_putF hX zc22 (k := 0) dX17_init_6 (Nat.le_of_ble_eq_true rfl) q496 rfl hnm rfl rfl rfl r7 g8 m9 l10 (z_nm (fun s3 e4 => ?_))
  have hw := hw s3 e4
  refine z_aload_n hX dX17_init_9 rfl (i := 0) rfl ?_
  refine z_iload_n hX dX17_init_10 rfl (i := 2) rfl ?_
  obtain ⟨a13, f14, r15, g16, m17, l18, hw⟩ := hw
  refine z_putF hX zc22 (k := 1) dX17_init_11 (Nat.le_of_ble_eq_true rfl) q499 rfl hnm rfl rfl rfl r15 g16 m17 l18 (z_nm (fun s11 e12 => ?_))
  have hw := hw s11 e12
  refine z_aload_n hX dX17_init_14 rfl (i := 0) rfl ?_
  refine z_iload_n hX dX17_init_15 rfl (i := 1) rfl ?_
  refine z_iload_n hX dX17_init_16 rfl (i := 2) rfl ?_
  refine z_multi hX dX17_init_17 q495 q366 q394 hw (fun s19 hw => ?_)
  obtain ⟨a22, f23, r24, g25, m26, l27, hw⟩ := hw
  refine z_putF hX zc22 (k := 2) dX17_init_21 (Nat.le_of_ble_eq_true rfl) q502 rfl hnm rfl (zn_a _ _) (zf_a _ _) r24 g25 m26 l27 (z_nm (fun s20 e21 => ?_))
  have hw := hw s20 e21
  exact z_return hX hR dX17_init_24 hw
abbrev cX17_cofactor : ByteArray := prog_11_method_3_code
def yX17_cofactor : MethodName := ⟨RX17, "cofactor", "(IIII)J"⟩
def dkwX17_cofactor_2 : List UInt8 := [112, 154, 0, 8, 22, 6, 167, 0, 6, 22, 6, 117, 173]
abbrev dktX17_cofactor_2 : List UInt8 := dkwX17_cofactor_2 ++ []
def dkwX17_cofactor_1 : List UInt8 := [42, 27, 4, 29, 120, 2, 130, 126, 28, 4, 21, 4, 120, 2, 130, 126, 182, 0, 33, 55, 6, 21, 5, 5]
abbrev dktX17_cofactor_1 : List UInt8 := dkwX17_cofactor_1 ++ dktX17_cofactor_2
def dkwX17_cofactor_0 : List UInt8 := [27, 4, 29, 120, 4, 100, 126, 184, 0, 37, 28, 4, 21, 4, 120, 4, 100, 126, 184, 0, 37, 96, 54, 5]
abbrev dktX17_cofactor_0 : List UInt8 := dkwX17_cofactor_0 ++ dktX17_cofactor_1
theorem dksX17_cofactor_0 : cX17_cofactor.data.toList.drop 0 = dktX17_cofactor_0 := by decide +kernel
theorem dksX17_cofactor_1 : cX17_cofactor.data.toList.drop 24 = dktX17_cofactor_1 := dk_seg dksX17_cofactor_0 24 rfl rfl
theorem dksX17_cofactor_2 : cX17_cofactor.data.toList.drop 48 = dktX17_cofactor_2 := dk_seg dksX17_cofactor_1 24 rfl rfl
theorem dX17_cofactor_0 : decode cX17_cofactor 0 = .ok (.iload_n 1, 1) := dk_27 (dk_at dksX17_cofactor_0 0 rfl rfl)
theorem dX17_cofactor_1 : decode cX17_cofactor 1 = .ok (.iconst 1, 1) := dk_4 (dk_at dksX17_cofactor_0 1 rfl rfl)
theorem dX17_cofactor_2 : decode cX17_cofactor 2 = .ok (.iload_n 3, 1) := dk_29 (dk_at dksX17_cofactor_0 2 rfl rfl)
theorem dX17_cofactor_3 : decode cX17_cofactor 3 = .ok (.ishl, 1) := dk_120 (dk_at dksX17_cofactor_0 3 rfl rfl)
theorem dX17_cofactor_4 : decode cX17_cofactor 4 = .ok (.iconst 1, 1) := dk_4 (dk_at dksX17_cofactor_0 4 rfl rfl)
theorem dX17_cofactor_5 : decode cX17_cofactor 5 = .ok (.isub, 1) := dk_100 (dk_at dksX17_cofactor_0 5 rfl rfl)
theorem dX17_cofactor_6 : decode cX17_cofactor 6 = .ok (.iand, 1) := dk_126 (dk_at dksX17_cofactor_0 6 rfl rfl)
theorem dX17_cofactor_7 : decode cX17_cofactor 7 = .ok (.invokestatic 37, 3) := dk_184 0 37 (dk_at dksX17_cofactor_0 7 rfl rfl)
theorem dX17_cofactor_10 : decode cX17_cofactor 10 = .ok (.iload_n 2, 1) := dk_28 (dk_at dksX17_cofactor_0 10 rfl rfl)
theorem dX17_cofactor_11 : decode cX17_cofactor 11 = .ok (.iconst 1, 1) := dk_4 (dk_at dksX17_cofactor_0 11 rfl rfl)
theorem dX17_cofactor_12 : decode cX17_cofactor 12 = .ok (.iload 4, 2) := dk_21 4 (dk_at dksX17_cofactor_0 12 rfl rfl)
theorem dX17_cofactor_14 : decode cX17_cofactor 14 = .ok (.ishl, 1) := dk_120 (dk_at dksX17_cofactor_0 14 rfl rfl)
theorem dX17_cofactor_15 : decode cX17_cofactor 15 = .ok (.iconst 1, 1) := dk_4 (dk_at dksX17_cofactor_0 15 rfl rfl)
theorem dX17_cofactor_16 : decode cX17_cofactor 16 = .ok (.isub, 1) := dk_100 (dk_at dksX17_cofactor_0 16 rfl rfl)
theorem dX17_cofactor_17 : decode cX17_cofactor 17 = .ok (.iand, 1) := dk_126 (dk_at dksX17_cofactor_0 17 rfl rfl)
theorem dX17_cofactor_18 : decode cX17_cofactor 18 = .ok (.invokestatic 37, 3) := dk_184 0 37 (dk_at dksX17_cofactor_0 18 rfl rfl)
theorem dX17_cofactor_21 : decode cX17_cofactor 21 = .ok (.iadd, 1) := dk_96 (dk_at dksX17_cofactor_0 21 rfl rfl)
theorem dX17_cofactor_22 : decode cX17_cofactor 22 = .ok (.istore 5, 2) := dk_54 5 (dk_at dksX17_cofactor_0 22 rfl rfl)
theorem dX17_cofactor_24 : decode cX17_cofactor 24 = .ok (.aload_n 0, 1) := dk_42 (dk_at dksX17_cofactor_1 0 rfl rfl)
theorem dX17_cofactor_25 : decode cX17_cofactor 25 = .ok (.iload_n 1, 1) := dk_27 (dk_at dksX17_cofactor_1 1 rfl rfl)
theorem dX17_cofactor_26 : decode cX17_cofactor 26 = .ok (.iconst 1, 1) := dk_4 (dk_at dksX17_cofactor_1 2 rfl rfl)
theorem dX17_cofactor_27 : decode cX17_cofactor 27 = .ok (.iload_n 3, 1) := dk_29 (dk_at dksX17_cofactor_1 3 rfl rfl)
theorem dX17_cofactor_28 : decode cX17_cofactor 28 = .ok (.ishl, 1) := dk_120 (dk_at dksX17_cofactor_1 4 rfl rfl)
theorem dX17_cofactor_29 : decode cX17_cofactor 29 = .ok (.iconst (-1), 1) := dk_2 (dk_at dksX17_cofactor_1 5 rfl rfl)
theorem dX17_cofactor_30 : decode cX17_cofactor 30 = .ok (.ixor, 1) := dk_130 (dk_at dksX17_cofactor_1 6 rfl rfl)
theorem dX17_cofactor_31 : decode cX17_cofactor 31 = .ok (.iand, 1) := dk_126 (dk_at dksX17_cofactor_1 7 rfl rfl)
theorem dX17_cofactor_32 : decode cX17_cofactor 32 = .ok (.iload_n 2, 1) := dk_28 (dk_at dksX17_cofactor_1 8 rfl rfl)
theorem dX17_cofactor_33 : decode cX17_cofactor 33 = .ok (.iconst 1, 1) := dk_4 (dk_at dksX17_cofactor_1 9 rfl rfl)
theorem dX17_cofactor_34 : decode cX17_cofactor 34 = .ok (.iload 4, 2) := dk_21 4 (dk_at dksX17_cofactor_1 10 rfl rfl)
theorem dX17_cofactor_36 : decode cX17_cofactor 36 = .ok (.ishl, 1) := dk_120 (dk_at dksX17_cofactor_1 12 rfl rfl)
theorem dX17_cofactor_37 : decode cX17_cofactor 37 = .ok (.iconst (-1), 1) := dk_2 (dk_at dksX17_cofactor_1 13 rfl rfl)
theorem dX17_cofactor_38 : decode cX17_cofactor 38 = .ok (.ixor, 1) := dk_130 (dk_at dksX17_cofactor_1 14 rfl rfl)
theorem dX17_cofactor_39 : decode cX17_cofactor 39 = .ok (.iand, 1) := dk_126 (dk_at dksX17_cofactor_1 15 rfl rfl)
theorem dX17_cofactor_40 : decode cX17_cofactor 40 = .ok (.invokevirtual 33, 3) := dk_182 0 33 (dk_at dksX17_cofactor_1 16 rfl rfl)
theorem dX17_cofactor_43 : decode cX17_cofactor 43 = .ok (.lstore 6, 2) := dk_55 6 (dk_at dksX17_cofactor_1 19 rfl rfl)
theorem dX17_cofactor_45 : decode cX17_cofactor 45 = .ok (.iload 5, 2) := dk_21 5 (dk_at dksX17_cofactor_1 21 rfl rfl)
theorem dX17_cofactor_47 : decode cX17_cofactor 47 = .ok (.iconst 2, 1) := dk_5 (dk_at dksX17_cofactor_1 23 rfl rfl)
theorem dX17_cofactor_48 : decode cX17_cofactor 48 = .ok (.irem, 1) := dk_112 (dk_at dksX17_cofactor_2 0 rfl rfl)
theorem dX17_cofactor_49 : decode cX17_cofactor 49 = .ok (.ifCond .ne 8, 3) := dk_154 0 8 (dk_at dksX17_cofactor_2 1 rfl rfl)
theorem dX17_cofactor_52 : decode cX17_cofactor 52 = .ok (.lload 6, 2) := dk_22 6 (dk_at dksX17_cofactor_2 4 rfl rfl)
theorem dX17_cofactor_54 : decode cX17_cofactor 54 = .ok (.goto 6, 3) := dk_167 0 6 (dk_at dksX17_cofactor_2 6 rfl rfl)
theorem dX17_cofactor_57 : decode cX17_cofactor 57 = .ok (.lload 6, 2) := dk_22 6 (dk_at dksX17_cofactor_2 9 rfl rfl)
theorem dX17_cofactor_59 : decode cX17_cofactor 59 = .ok (.lneg, 1) := dk_117 (dk_at dksX17_cofactor_2 11 rfl rfl)
theorem dX17_cofactor_60 : decode cX17_cofactor 60 = .ok (.lreturn, 1) := dk_173 (dk_at dksX17_cofactor_2 12 rfl rfl)
/-- PackingDuel$Matrix.cofactor(IIII)J -/
def zb495 (G : zPg) (C : zO) (args : List Value) (Q : zQ) (Y : zY) (σ : zS) : Prop := ∃ (a0 : Nat) (x1 : Int32) (x2 : Int32) (x3 : Int32) (x4 : Int32), args = [.ref a0, .int x1, .int x2, .int x3, .int x4] ∧ ((∀ v1 : Int32, v1 = (((1 : Int32) <<< (x3 &&& 31)) - (1 : Int32)) → zcl C 433 [.int (x1 &&& v1)] Y σ (zqI (fun v3 s4 => (∀ v6 : Int32, v6 = (((1 : Int32) <<< (x4 &&& 31)) - (1 : Int32)) → zcl C 433 [.int (x2 &&& v6)] Y s4 (zqI (fun v8 s9 => (∀ v11 : Int32, v11 = (((1 : Int32) <<< (x3 &&& 31)) ^^^ (-1 : Int32)) → (∀ v13 : Int32, v13 = (((1 : Int32) <<< (x4 &&& 31)) ^^^ (-1 : Int32)) → zrc s9 (some a0) 22 (fun a18 => zcl C 496 [.ref a18, .int (x1 &&& v11), .int (x2 &&& v13)] Y s9 (zqL (fun v15 s16 => (¬ (2 : Int32) = 0 ∧ (∀ v22 : Int32, v22 = ((v3 + v8) - (v3 + v8) / (2 : Int32) * (2 : Int32)) → zJ (fun (p24 : Int64) (s25 : zS) => Q (some (.long p24)) s25) (fun (j26 : Int64 → zS → Prop) => ((¬ v22 = 0) → j26 (-v15) s16) ∧ ((v22 = 0) → j26 v15 s16))))))))))))))))
set_option maxHeartbeats 4000000 in
theorem wk495 {l : Launch} {g : zG} {d : Nat} {C : zO} (hG : zGk g) (hC : zSound l g d C) {args : List Value} {Q : zQ} {Y : zY} {σ : zS} (hw : zb495 (zpg g) C args Q Y σ) : zMet l g (d + 1) (⟨"PackingDuel$Matrix", "cofactor", "(IIII)J"⟩, Cond.code ⟨"PackingDuel$Matrix", "cofactor", "(IIII)J"⟩ prog_11_method_3_code 8 (Option.some FieldType.long)) args σ Q Y := by
  obtain ⟨a0, x1, x2, x3, x4, rfl, hw⟩ := hw
  refine zof hG (by decide +kernel) [false, false, false, false, false] ⟨rfl, rfl, rfl, rfl, rfl, trivial⟩ (Nat.le_of_ble_eq_true rfl) (ls := [some (va_rf (some a0)), some (.int x1), some (.int x2), some (.int x3), some (.int x4), none, none, none]) rfl ?_
  intro X hX hR hTb hd1 hd2 hl hg hnm
  subst hl
  subst hg
  have hd : zDep X d := ⟨hd1, hd2⟩
  refine z_iload_n hX dX17_cofactor_0 rfl (i := 1) rfl ?_
  refine z_iconst hX (v := (1 : Int32)) dX17_cofactor_1 (by decide) ?_
  refine z_iload_n hX dX17_cofactor_2 rfl (i := 3) rfl ?_
  refine z_ishl hX dX17_cofactor_3 ?_
  refine z_iconst hX (v := (1 : Int32)) dX17_cofactor_4 (by decide) ?_
  refine z_isub hX dX17_cofactor_5 ?_
  refine z_topi (fun v1 e2 => ?_)
  have hw := hw v1 e2
  refine z_iand hX dX17_cofactor_6 ?_
  refine z_invS hX hd dX17_cofactor_7 (hC 433 _ zm433 _ _ _ _ hw) q546 q531 zh24 q532 q154 zn433 rfl (Nat.le_of_ble_eq_true rfl) (st := []) rfl (zcs8 (Nat.le_of_ble_eq_true rfl)) rfl (zkI (fun v3 s4 hw => ?_)) (zout hX hR hTb)
  refine z_iload_n hX dX17_cofactor_10 rfl (i := 2) rfl ?_
  refine z_iconst hX (v := (1 : Int32)) dX17_cofactor_11 (by decide) ?_
  refine z_iload hX dX17_cofactor_12 (i := 4) rfl ?_
  refine z_ishl hX dX17_cofactor_14 ?_
  refine z_iconst hX (v := (1 : Int32)) dX17_cofactor_15 (by decide) ?_
  refine z_isub hX dX17_cofactor_16 ?_
  refine z_topi (fun v6 e7 => ?_)
  have hw := hw v6 e7
  refine z_iand hX dX17_cofactor_17 ?_
  refine z_invS hX hd dX17_cofactor_18 (hC 433 _ zm433 _ _ _ _ hw) q546 q531 zh24 q532 q154 zn433 rfl (Nat.le_of_ble_eq_true rfl) (st := [.int v3]) rfl (zcs8 (Nat.le_of_ble_eq_true rfl)) rfl (zkI (fun v8 s9 hw => ?_)) (zout hX hR hTb)
  refine z_iadd hX dX17_cofactor_21 ?_
  refine z_istore hX dX17_cofactor_22 (i := 5) (Nat.le_of_ble_eq_true rfl) rfl (ls2 := [some (va_rf (some a0)), some (.int x1), some (.int x2), some (.int x3), some (.int x4), some (.int (v3 + v8)), none, none]) rfl ?_
  refine z_aload_n hX dX17_cofactor_24 rfl (i := 0) rfl ?_
  refine z_iload_n hX dX17_cofactor_25 rfl (i := 1) rfl ?_
  refine z_iconst hX (v := (1 : Int32)) dX17_cofactor_26 (by decide) ?_
  refine z_iload_n hX dX17_cofactor_27 rfl (i := 3) rfl ?_
  refine z_ishl hX dX17_cofactor_28 ?_
  refine z_iconst hX (v := (-1 : Int32)) dX17_cofactor_29 (by decide) ?_
  refine z_ixor hX dX17_cofactor_30 ?_
  refine z_topi (fun v11 e12 => ?_)
  have hw := hw v11 e12
  refine z_iand hX dX17_cofactor_31 ?_
  refine z_iload_n hX dX17_cofactor_32 rfl (i := 2) rfl ?_
  refine z_iconst hX (v := (1 : Int32)) dX17_cofactor_33 (by decide) ?_
  refine z_iload hX dX17_cofactor_34 (i := 4) rfl ?_
  refine z_ishl hX dX17_cofactor_36 ?_
  refine z_iconst hX (v := (-1 : Int32)) dX17_cofactor_37 (by decide) ?_
  refine z_ixor hX dX17_cofactor_38 ?_
  refine z_topi (fun v13 e14 => ?_)
  have hw := hw v13 e14
  refine z_iand hX dX17_cofactor_39 ?_
  obtain ⟨a18, f19, r20, m21, hw⟩ := hw
  refine z_invV hX hd r20 (ci := 22) rfl rfl m21 dX17_cofactor_40 (hC 496 _ zm496 _ _ _ _ hw) q547 q548 q549 zh43 q550 q176 zn496 rfl (Nat.le_of_ble_eq_true rfl) (st := []) rfl (zcs8 (Nat.le_of_ble_eq_true rfl)) rfl (zkL (fun v15 s16 hw => ?_)) (zout hX hR hTb)
  refine z_lstore hX dX17_cofactor_43 (i := 6) (Nat.le_of_ble_eq_true rfl) rfl (ls2 := [some (va_rf (some a0)), some (.int x1), some (.int x2), some (.int x3), some (.int x4), some (.int (v3 + v8)), some (.long v15), none]) rfl ?_
  refine z_iload hX dX17_cofactor_45 (i := 5) rfl ?_
  refine z_iconst hX (v := (2 : Int32)) dX17_cofactor_47 (by decide) ?_
  refine z_irem hX dX17_cofactor_48 hw.1 ?_
  have hw := hw.2
  refine z_topi (fun v22 e23 => ?_)
  have hw := hw v22 e23
  refine zJ_w (P := fun (j : Int64 → zS → Prop) => ∀ (p24 : Int64) (s25 : zS), j p24 s25 → zW X s25 60 [none, none, none, none, none, none, none, none] [.long p24]) hw (fun p24 s25 hw => ?_) (fun j26 hj26 hw => ?_)
  · exact z_lreturn hX hR dX17_cofactor_60 hw
  · refine z_if_ne hX dX17_cofactor_49 (tgt := 57) rfl (fun c27 => ?_) (fun c27 => ?_)
    · have hw := hw.1 c27
      refine z_lload hX dX17_cofactor_57 (i := 6) rfl ?_
      refine z_lneg hX dX17_cofactor_59 ?_
      refine z_sub (ls' := [none, none, none, none, none, none, none, none]) (zsN (zsN (zsN (zsN (zsN (zsN (zsN (zsN (zs0))))))))) ?_
      exact hj26 _ _ hw
    · have hw := hw.2 c27
      refine z_lload hX dX17_cofactor_52 (i := 6) rfl ?_
      refine z_goto hX dX17_cofactor_54 (tgt := 60) rfl ?_
      refine z_sub (ls' := [none, none, none, none, none, none, none, none]) (zsN (zsN (zsN (zsN (zsN (zsN (zsN (zsN (zs0))))))))) ?_
      exact hj26 _ _ hw
abbrev cX17_determinant : ByteArray := prog_11_method_2_code
def yX17_determinant : MethodName := ⟨RX17, "determinant", "(II)J"⟩
def dkwX17_determinant_3 : List UInt8 := [182, 0, 33, 105, 97, 55, 4, 21, 6, 116, 54, 6, 132, 7, 1, 167, 255, 191, 22, 4, 173]
abbrev dktX17_determinant_3 : List UInt8 := dkwX17_determinant_3 ++ []
def dkwX17_determinant_2 : List UInt8 := [180, 0, 18, 29, 50, 21, 7, 46, 104, 133, 42, 27, 27, 4, 100, 126, 28, 4, 21, 7, 120, 2, 130, 126]
abbrev dktX17_determinant_2 : List UInt8 := dkwX17_determinant_2 ++ dktX17_determinant_3
def dkwX17_determinant_1 : List UInt8 := [180, 0, 13, 162, 0, 62, 28, 21, 7, 184, 0, 27, 154, 0, 6, 167, 0, 44, 22, 4, 21, 6, 42]
abbrev dktX17_determinant_1 : List UInt8 := dkwX17_determinant_1 ++ dktX17_determinant_2
def dkwX17_determinant_0 : List UInt8 := [27, 154, 0, 5, 10, 173, 27, 184, 0, 21, 62, 9, 55, 4, 4, 54, 6, 3, 54, 7, 21, 7, 42]
abbrev dktX17_determinant_0 : List UInt8 := dkwX17_determinant_0 ++ dktX17_determinant_1
theorem dksX17_determinant_0 : cX17_determinant.data.toList.drop 0 = dktX17_determinant_0 := by decide +kernel
theorem dksX17_determinant_1 : cX17_determinant.data.toList.drop 23 = dktX17_determinant_1 := dk_seg dksX17_determinant_0 23 rfl rfl
theorem dksX17_determinant_2 : cX17_determinant.data.toList.drop 46 = dktX17_determinant_2 := dk_seg dksX17_determinant_1 23 rfl rfl
theorem dksX17_determinant_3 : cX17_determinant.data.toList.drop 70 = dktX17_determinant_3 := dk_seg dksX17_determinant_2 24 rfl rfl
theorem dX17_determinant_0 : decode cX17_determinant 0 = .ok (.iload_n 1, 1) := dk_27 (dk_at dksX17_determinant_0 0 rfl rfl)
theorem dX17_determinant_1 : decode cX17_determinant 1 = .ok (.ifCond .ne 5, 3) := dk_154 0 5 (dk_at dksX17_determinant_0 1 rfl rfl)
theorem dX17_determinant_4 : decode cX17_determinant 4 = .ok (.lconst 1, 1) := dk_10 (dk_at dksX17_determinant_0 4 rfl rfl)
theorem dX17_determinant_5 : decode cX17_determinant 5 = .ok (.lreturn, 1) := dk_173 (dk_at dksX17_determinant_0 5 rfl rfl)
theorem dX17_determinant_6 : decode cX17_determinant 6 = .ok (.iload_n 1, 1) := dk_27 (dk_at dksX17_determinant_0 6 rfl rfl)
theorem dX17_determinant_7 : decode cX17_determinant 7 = .ok (.invokestatic 21, 3) := dk_184 0 21 (dk_at dksX17_determinant_0 7 rfl rfl)
theorem dX17_determinant_10 : decode cX17_determinant 10 = .ok (.istore_n 3, 1) := dk_62 (dk_at dksX17_determinant_0 10 rfl rfl)
theorem dX17_determinant_11 : decode cX17_determinant 11 = .ok (.lconst 0, 1) := dk_9 (dk_at dksX17_determinant_0 11 rfl rfl)
theorem dX17_determinant_12 : decode cX17_determinant 12 = .ok (.lstore 4, 2) := dk_55 4 (dk_at dksX17_determinant_0 12 rfl rfl)
theorem dX17_determinant_14 : decode cX17_determinant 14 = .ok (.iconst 1, 1) := dk_4 (dk_at dksX17_determinant_0 14 rfl rfl)
theorem dX17_determinant_15 : decode cX17_determinant 15 = .ok (.istore 6, 2) := dk_54 6 (dk_at dksX17_determinant_0 15 rfl rfl)
theorem dX17_determinant_17 : decode cX17_determinant 17 = .ok (.iconst 0, 1) := dk_3 (dk_at dksX17_determinant_0 17 rfl rfl)
theorem dX17_determinant_18 : decode cX17_determinant 18 = .ok (.istore 7, 2) := dk_54 7 (dk_at dksX17_determinant_0 18 rfl rfl)
theorem dX17_determinant_20 : decode cX17_determinant 20 = .ok (.iload 7, 2) := dk_21 7 (dk_at dksX17_determinant_0 20 rfl rfl)
theorem dX17_determinant_22 : decode cX17_determinant 22 = .ok (.aload_n 0, 1) := dk_42 (dk_at dksX17_determinant_0 22 rfl rfl)
theorem dX17_determinant_23 : decode cX17_determinant 23 = .ok (.getfield 13, 3) := dk_180 0 13 (dk_at dksX17_determinant_1 0 rfl rfl)
theorem dX17_determinant_26 : decode cX17_determinant 26 = .ok (.if_icmp .ge 62, 3) := dk_162 0 62 (dk_at dksX17_determinant_1 3 rfl rfl)
theorem dX17_determinant_29 : decode cX17_determinant 29 = .ok (.iload_n 2, 1) := dk_28 (dk_at dksX17_determinant_1 6 rfl rfl)
theorem dX17_determinant_30 : decode cX17_determinant 30 = .ok (.iload 7, 2) := dk_21 7 (dk_at dksX17_determinant_1 7 rfl rfl)
theorem dX17_determinant_32 : decode cX17_determinant 32 = .ok (.invokestatic 27, 3) := dk_184 0 27 (dk_at dksX17_determinant_1 9 rfl rfl)
theorem dX17_determinant_35 : decode cX17_determinant 35 = .ok (.ifCond .ne 6, 3) := dk_154 0 6 (dk_at dksX17_determinant_1 12 rfl rfl)
theorem dX17_determinant_38 : decode cX17_determinant 38 = .ok (.goto 44, 3) := dk_167 0 44 (dk_at dksX17_determinant_1 15 rfl rfl)
theorem dX17_determinant_41 : decode cX17_determinant 41 = .ok (.lload 4, 2) := dk_22 4 (dk_at dksX17_determinant_1 18 rfl rfl)
theorem dX17_determinant_43 : decode cX17_determinant 43 = .ok (.iload 6, 2) := dk_21 6 (dk_at dksX17_determinant_1 20 rfl rfl)
theorem dX17_determinant_45 : decode cX17_determinant 45 = .ok (.aload_n 0, 1) := dk_42 (dk_at dksX17_determinant_1 22 rfl rfl)
theorem dX17_determinant_46 : decode cX17_determinant 46 = .ok (.getfield 18, 3) := dk_180 0 18 (dk_at dksX17_determinant_2 0 rfl rfl)
theorem dX17_determinant_49 : decode cX17_determinant 49 = .ok (.iload_n 3, 1) := dk_29 (dk_at dksX17_determinant_2 3 rfl rfl)
theorem dX17_determinant_50 : decode cX17_determinant 50 = .ok (.aaload, 1) := dk_50 (dk_at dksX17_determinant_2 4 rfl rfl)
theorem dX17_determinant_51 : decode cX17_determinant 51 = .ok (.iload 7, 2) := dk_21 7 (dk_at dksX17_determinant_2 5 rfl rfl)
theorem dX17_determinant_53 : decode cX17_determinant 53 = .ok (.iaload, 1) := dk_46 (dk_at dksX17_determinant_2 7 rfl rfl)
theorem dX17_determinant_54 : decode cX17_determinant 54 = .ok (.imul, 1) := dk_104 (dk_at dksX17_determinant_2 8 rfl rfl)
theorem dX17_determinant_55 : decode cX17_determinant 55 = .ok (.i2l, 1) := dk_133 (dk_at dksX17_determinant_2 9 rfl rfl)
theorem dX17_determinant_56 : decode cX17_determinant 56 = .ok (.aload_n 0, 1) := dk_42 (dk_at dksX17_determinant_2 10 rfl rfl)
theorem dX17_determinant_57 : decode cX17_determinant 57 = .ok (.iload_n 1, 1) := dk_27 (dk_at dksX17_determinant_2 11 rfl rfl)
theorem dX17_determinant_58 : decode cX17_determinant 58 = .ok (.iload_n 1, 1) := dk_27 (dk_at dksX17_determinant_2 12 rfl rfl)
theorem dX17_determinant_59 : decode cX17_determinant 59 = .ok (.iconst 1, 1) := dk_4 (dk_at dksX17_determinant_2 13 rfl rfl)
theorem dX17_determinant_60 : decode cX17_determinant 60 = .ok (.isub, 1) := dk_100 (dk_at dksX17_determinant_2 14 rfl rfl)
theorem dX17_determinant_61 : decode cX17_determinant 61 = .ok (.iand, 1) := dk_126 (dk_at dksX17_determinant_2 15 rfl rfl)
theorem dX17_determinant_62 : decode cX17_determinant 62 = .ok (.iload_n 2, 1) := dk_28 (dk_at dksX17_determinant_2 16 rfl rfl)
theorem dX17_determinant_63 : decode cX17_determinant 63 = .ok (.iconst 1, 1) := dk_4 (dk_at dksX17_determinant_2 17 rfl rfl)
theorem dX17_determinant_64 : decode cX17_determinant 64 = .ok (.iload 7, 2) := dk_21 7 (dk_at dksX17_determinant_2 18 rfl rfl)
theorem dX17_determinant_66 : decode cX17_determinant 66 = .ok (.ishl, 1) := dk_120 (dk_at dksX17_determinant_2 20 rfl rfl)
theorem dX17_determinant_67 : decode cX17_determinant 67 = .ok (.iconst (-1), 1) := dk_2 (dk_at dksX17_determinant_2 21 rfl rfl)
theorem dX17_determinant_68 : decode cX17_determinant 68 = .ok (.ixor, 1) := dk_130 (dk_at dksX17_determinant_2 22 rfl rfl)
theorem dX17_determinant_69 : decode cX17_determinant 69 = .ok (.iand, 1) := dk_126 (dk_at dksX17_determinant_2 23 rfl rfl)
theorem dX17_determinant_70 : decode cX17_determinant 70 = .ok (.invokevirtual 33, 3) := dk_182 0 33 (dk_at dksX17_determinant_3 0 rfl rfl)
theorem dX17_determinant_73 : decode cX17_determinant 73 = .ok (.lmul, 1) := dk_105 (dk_at dksX17_determinant_3 3 rfl rfl)
theorem dX17_determinant_74 : decode cX17_determinant 74 = .ok (.ladd, 1) := dk_97 (dk_at dksX17_determinant_3 4 rfl rfl)
theorem dX17_determinant_75 : decode cX17_determinant 75 = .ok (.lstore 4, 2) := dk_55 4 (dk_at dksX17_determinant_3 5 rfl rfl)
theorem dX17_determinant_77 : decode cX17_determinant 77 = .ok (.iload 6, 2) := dk_21 6 (dk_at dksX17_determinant_3 7 rfl rfl)
theorem dX17_determinant_79 : decode cX17_determinant 79 = .ok (.ineg, 1) := dk_116 (dk_at dksX17_determinant_3 9 rfl rfl)
theorem dX17_determinant_80 : decode cX17_determinant 80 = .ok (.istore 6, 2) := dk_54 6 (dk_at dksX17_determinant_3 10 rfl rfl)
theorem dX17_determinant_82 : decode cX17_determinant 82 = .ok (.iinc 7 1, 3) := dk_132 7 1 (dk_at dksX17_determinant_3 12 rfl rfl)
theorem dX17_determinant_85 : decode cX17_determinant 85 = .ok (.goto (-65), 3) := dk_167 255 191 (dk_at dksX17_determinant_3 15 rfl rfl)
theorem dX17_determinant_88 : decode cX17_determinant 88 = .ok (.lload 4, 2) := dk_22 4 (dk_at dksX17_determinant_3 18 rfl rfl)
theorem dX17_determinant_90 : decode cX17_determinant 90 = .ok (.lreturn, 1) := dk_173 (dk_at dksX17_determinant_3 20 rfl rfl)
/-- PackingDuel$Matrix.determinant(II)J -/
def zb496 (G : zPg) (C : zO) (args : List Value) (Q : zQ) (Y : zY) (σ : zS) : Prop := ∃ (a0 : Nat) (x1 : Int32) (x2 : Int32), args = [.ref a0, .int x1, .int x2] ∧ (((¬ x1 = 0) → zcl C 431 [.int x1] Y σ (zqI (fun v2 s3 => ∃ n, zIt (fun _ _ _ _ => False) (fun rec9 (p5 : Int64) (p6 : Int32) (p7 : Int32) (s8 : zS) => zgI s8 (some a0) 22 1 (fun v10 => ((v10 ≤ p7) → Q (some (.long p5)) s8) ∧ ((¬ v10 ≤ p7) → zcl C 31 [.int x2, .int p7] Y s8 (zqI (fun v17 s18 => zJ (fun (p20 : Int64) (p21 : Int32) (s22 : zS) => (∀ v24 : Int32, v24 = p7 + (1 : Int32) → rec9 p20 p21 v24 s22)) (fun (j23 : Int64 → Int32 → zS → Prop) => ((¬ v17 = 0) → zgR s18 (some a0) 22 2 (fun v27 => zaR s18 5 v27 v2 (fun v39 => zaI s18 0 v39 p7 (fun v47 => (∀ v49 : Int32, v49 = (((1 : Int32) <<< (p7 &&& 31)) ^^^ (-1 : Int32)) → zrc s18 (some a0) 22 (fun a54 => zcl C 496 [.ref a54, .int (x1 &&& (x1 - (1 : Int32))), .int (x2 &&& v49)] Y s18 (zqL (fun v51 s52 => j23 (p5 + ((p6 * v47).toInt64 * v51)) (-p6) s52)))))))) ∧ ((v17 = 0) → j23 p5 p6 s18))))))) n (0 : Int64) (1 : Int32) (0 : Int32) s3))) ∧ ((x1 = 0) → Q (some (.long (1 : Int64))) σ))
set_option maxHeartbeats 4000000 in
theorem wk496 {l : Launch} {g : zG} {d : Nat} {C : zO} (hG : zGk g) (hC : zSound l g d C) {args : List Value} {Q : zQ} {Y : zY} {σ : zS} (hw : zb496 (zpg g) C args Q Y σ) : zMet l g (d + 1) (⟨"PackingDuel$Matrix", "determinant", "(II)J"⟩, Cond.code ⟨"PackingDuel$Matrix", "determinant", "(II)J"⟩ prog_11_method_2_code 8 (Option.some FieldType.long)) args σ Q Y := by
  obtain ⟨a0, x1, x2, rfl, hw⟩ := hw
  refine zof hG (by decide +kernel) [false, false, false] ⟨rfl, rfl, rfl, trivial⟩ (Nat.le_of_ble_eq_true rfl) (ls := [some (va_rf (some a0)), some (.int x1), some (.int x2), none, none, none, none, none]) rfl ?_
  intro X hX hR hTb hd1 hd2 hl hg hnm
  subst hl
  subst hg
  have hd : zDep X d := ⟨hd1, hd2⟩
  refine z_iload_n hX dX17_determinant_0 rfl (i := 1) rfl ?_
  refine z_if_ne hX dX17_determinant_1 (tgt := 6) rfl (fun c1 => ?_) (fun c1 => ?_)
  · have hw := hw.1 c1
    refine z_iload_n hX dX17_determinant_6 rfl (i := 1) rfl ?_
    refine z_invS hX hd dX17_determinant_7 (hC 431 _ zm431 _ _ _ _ hw) q551 q368 zh24 q369 q154 zn431 rfl (Nat.le_of_ble_eq_true rfl) (st := []) rfl (zcs8 (Nat.le_of_ble_eq_true rfl)) rfl (zkI (fun v2 s3 hw => ?_)) (zout hX hR hTb)
    refine z_istore_n hX dX17_determinant_10 rfl (i := 3) (Nat.le_of_ble_eq_true rfl) rfl (ls2 := [some (va_rf (some a0)), some (.int x1), some (.int x2), some (.int v2), none, none, none, none]) rfl ?_
    refine z_lconst hX (v := (0 : Int64)) dX17_determinant_11 (by decide) ?_
    refine z_lstore hX dX17_determinant_12 (i := 4) (Nat.le_of_ble_eq_true rfl) rfl (ls2 := [some (va_rf (some a0)), some (.int x1), some (.int x2), some (.int v2), some (.long (0 : Int64)), none, none, none]) rfl ?_
    refine z_iconst hX (v := (1 : Int32)) dX17_determinant_14 (by decide) ?_
    refine z_istore hX dX17_determinant_15 (i := 6) (Nat.le_of_ble_eq_true rfl) trivial (ls2 := [some (va_rf (some a0)), some (.int x1), some (.int x2), some (.int v2), some (.long (0 : Int64)), none, some (.int (1 : Int32)), none]) rfl ?_
    refine z_iconst hX (v := (0 : Int32)) dX17_determinant_17 (by decide) ?_
    refine z_istore hX dX17_determinant_18 (i := 7) (Nat.le_of_ble_eq_true rfl) rfl (ls2 := [some (va_rf (some a0)), some (.int x1), some (.int x2), some (.int v2), some (.long (0 : Int64)), none, some (.int (1 : Int32)), some (.int (0 : Int32))]) rfl ?_
    obtain ⟨n58, hw⟩ := hw
    refine zIt_w (P := fun (j : Int64 → Int32 → Int32 → zS → Prop) => ∀ (p5 : Int64) (p6 : Int32) (p7 : Int32) (s8 : zS), j p5 p6 p7 s8 → zW X s8 20 [some (va_rf (some a0)), some (.int x1), some (.int x2), some (.int v2), some (.long p5), none, some (.int p6), some (.int p7)] []) (fun _ _ _ _ h => h.elim) (fun rec9 hrec9 p5 p6 p7 s8 hw => ?_) n58 _ _ _ _ hw
    refine z_iload hX dX17_determinant_20 (i := 7) rfl ?_
    refine z_aload_n hX dX17_determinant_22 rfl (i := 0) rfl ?_
    obtain ⟨a11, f12, v10, r13, m14, e15, hw⟩ := hw
    refine z_get hX zc22 (k := 1) dX17_determinant_23 (Nat.le_of_ble_eq_true rfl) (zlk hX q499) r13 m14 e15 ?_
    refine z_icmp_ge hX dX17_determinant_26 (tgt := 88) rfl (fun c16 => ?_) (fun c16 => ?_)
    · have hw := hw.1 c16
      refine z_lload hX dX17_determinant_88 (i := 4) rfl ?_
      exact z_lreturn hX hR dX17_determinant_90 hw
    · have hw := hw.2 c16
      refine z_iload_n hX dX17_determinant_29 rfl (i := 2) rfl ?_
      refine z_iload hX dX17_determinant_30 (i := 7) rfl ?_
      refine z_invSN hX hd dX17_determinant_32 (hC 31 _ zm31 _ _ _ _ hw) q552 q523 zh1 q524 q130 zn31 rfl (Nat.le_of_ble_eq_true rfl) (st := []) rfl (zcs8 (Nat.le_of_ble_eq_true rfl)) rfl (zkI (fun v17 s18 hw => ?_)) (zout hX hR hTb)
      refine zJ_w (P := fun (j : Int64 → Int32 → zS → Prop) => ∀ (p20 : Int64) (p21 : Int32) (s22 : zS), j p20 p21 s22 → zW X s22 82 [some (va_rf (some a0)), some (.int x1), some (.int x2), some (.int v2), some (.long p20), none, some (.int p21), some (.int p7)] []) hw (fun p20 p21 s22 hw => ?_) (fun j23 hj23 hw => ?_)
      · obtain ⟨v24, e25⟩ : ∃ y : Int32, y = p7 + (1 : Int32) := ⟨_, rfl⟩
        refine z_iinc hX dX17_determinant_82 (i := 7) (v := v24) rfl (by rw [e25]; rfl) (Nat.le_of_ble_eq_true rfl) rfl (ls2 := [some (va_rf (some a0)), some (.int x1), some (.int x2), some (.int v2), some (.long p20), none, some (.int p21), some (.int v24)]) rfl ?_
        have hw := hw v24 e25
        refine z_goto hX dX17_determinant_85 (tgt := 20) rfl ?_
        exact hrec9 _ _ _ _ hw
      · refine z_if_ne hX dX17_determinant_35 (tgt := 41) rfl (fun c26 => ?_) (fun c26 => ?_)
        · have hw := hw.1 c26
          refine z_lload hX dX17_determinant_41 (i := 4) rfl ?_
          refine z_iload hX dX17_determinant_43 (i := 6) rfl ?_
          refine z_aload_n hX dX17_determinant_45 rfl (i := 0) rfl ?_
          obtain ⟨a28, f29, v27, r30, m31, e32, hw⟩ := hw
          refine z_get hX zc22 (k := 2) dX17_determinant_46 (Nat.le_of_ble_eq_true rfl) (zlk hX q502) r30 m31 e32 ?_
          refine z_iload_n hX dX17_determinant_49 rfl (i := 3) rfl ?_
          obtain ⟨a33, n34, f35, r36, m37, i38, hw⟩ := hw
          refine z_aald hX 5 dX17_determinant_50 rfl r36 m37 i38 ?_
          revert hw
          generalize f35 (Int32.toNatClampNeg v2) = v39
          intro hw
          refine z_iload hX dX17_determinant_51 (i := 7) rfl ?_
          obtain ⟨a41, n42, f43, r44, m45, i46, hw⟩ := hw
          refine z_iald hX dX17_determinant_53 r44 m45 i46 ?_
          revert hw
          generalize f43 (Int32.toNatClampNeg p7) = v47
          intro hw
          refine z_imul hX dX17_determinant_54 ?_
          refine z_i2l hX dX17_determinant_55 ?_
          refine z_aload_n hX dX17_determinant_56 rfl (i := 0) rfl ?_
          refine z_iload_n hX dX17_determinant_57 rfl (i := 1) rfl ?_
          refine z_iload_n hX dX17_determinant_58 rfl (i := 1) rfl ?_
          refine z_iconst hX (v := (1 : Int32)) dX17_determinant_59 (by decide) ?_
          refine z_isub hX dX17_determinant_60 ?_
          refine z_iand hX dX17_determinant_61 ?_
          refine z_iload_n hX dX17_determinant_62 rfl (i := 2) rfl ?_
          refine z_iconst hX (v := (1 : Int32)) dX17_determinant_63 (by decide) ?_
          refine z_iload hX dX17_determinant_64 (i := 7) rfl ?_
          refine z_ishl hX dX17_determinant_66 ?_
          refine z_iconst hX (v := (-1 : Int32)) dX17_determinant_67 (by decide) ?_
          refine z_ixor hX dX17_determinant_68 ?_
          refine z_topi (fun v49 e50 => ?_)
          have hw := hw v49 e50
          refine z_iand hX dX17_determinant_69 ?_
          obtain ⟨a54, f55, r56, m57, hw⟩ := hw
          refine z_invV hX hd r56 (ci := 22) rfl rfl m57 dX17_determinant_70 (hC 496 _ zm496 _ _ _ _ hw) q547 q548 q549 zh43 q550 q176 zn496 rfl (Nat.le_of_ble_eq_true rfl) (st := [.long (p6 * v47).toInt64, .long p5]) rfl (zcs8 (Nat.le_of_ble_eq_true rfl)) rfl (zkL (fun v51 s52 hw => ?_)) (zout hX hR hTb)
          refine z_lmul hX dX17_determinant_73 ?_
          refine z_ladd hX dX17_determinant_74 ?_
          refine z_lstore hX dX17_determinant_75 (i := 4) (Nat.le_of_ble_eq_true rfl) rfl (ls2 := [some (va_rf (some a0)), some (.int x1), some (.int x2), some (.int v2), some (.long (p5 + ((p6 * v47).toInt64 * v51))), none, some (.int p6), some (.int p7)]) rfl ?_
          refine z_iload hX dX17_determinant_77 (i := 6) rfl ?_
          refine z_ineg hX dX17_determinant_79 ?_
          refine z_istore hX dX17_determinant_80 (i := 6) (Nat.le_of_ble_eq_true rfl) trivial (ls2 := [some (va_rf (some a0)), some (.int x1), some (.int x2), some (.int v2), some (.long (p5 + ((p6 * v47).toInt64 * v51))), none, some (.int (-p6)), some (.int p7)]) rfl ?_
          exact hj23 _ _ _ hw
        · have hw := hw.2 c26
          refine z_goto hX dX17_determinant_38 (tgt := 82) rfl ?_
          exact hj23 _ _ _ hw
  · have hw := hw.2 c1
    refine z_lconst hX (v := (1 : Int64)) dX17_determinant_4 (by decide) ?_
    exact z_lreturn hX hR dX17_determinant_5 hw
abbrev cX18_init : ByteArray := prog_10_method_1_code
def yX18_init : MethodName := ⟨RX18, "<init>", "(LPackingDuel$Matrix;II)V"⟩
def dkwX18_init_5 : List UInt8 := [181, 0, 53, 42, 180, 0, 57, 9, 148, 156, 0, 7, 42, 182, 0, 60, 177]
abbrev dktX18_init_5 : List UInt8 := dkwX18_init_5 ++ []
def dkwX18_init_4 : List UInt8 := [182, 0, 45, 132, 5, 1, 167, 255, 208, 132, 4, 1, 167, 255, 190, 42, 43, 28, 29, 182, 0, 49]
abbrev dktX18_init_4 : List UInt8 := dkwX18_init_4 ++ dktX18_init_5
def dkwX18_init_3 : List UInt8 := [29, 21, 5, 184, 0, 35, 153, 0, 21, 42, 21, 4, 21, 5, 43, 28, 29, 21, 4, 21, 5, 182, 0, 41]
abbrev dktX18_init_3 : List UInt8 := dkwX18_init_3 ++ dktX18_init_4
def dkwX18_init_2 : List UInt8 := [162, 0, 63, 3, 54, 5, 21, 5, 43, 180, 0, 29, 162, 0, 45, 28, 21, 4, 184, 0, 35, 153, 0, 30]
abbrev dktX18_init_2 : List UInt8 := dkwX18_init_2 ++ dktX18_init_3
def dkwX18_init_1 : List UInt8 := [188, 11, 181, 0, 25, 42, 43, 180, 0, 29, 188, 11, 181, 0, 32, 3, 54, 4, 21, 4, 43, 180, 0, 20]
abbrev dktX18_init_1 : List UInt8 := dkwX18_init_1 ++ dktX18_init_2
def dkwX18_init_0 : List UInt8 := [42, 183, 0, 1, 42, 43, 181, 0, 7, 42, 28, 181, 0, 13, 42, 29, 181, 0, 17, 42, 43, 180, 0, 20]
abbrev dktX18_init_0 : List UInt8 := dkwX18_init_0 ++ dktX18_init_1
theorem dksX18_init_0 : cX18_init.data.toList.drop 0 = dktX18_init_0 := by decide +kernel
theorem dksX18_init_1 : cX18_init.data.toList.drop 24 = dktX18_init_1 := dk_seg dksX18_init_0 24 rfl rfl
theorem dksX18_init_2 : cX18_init.data.toList.drop 48 = dktX18_init_2 := dk_seg dksX18_init_1 24 rfl rfl
theorem dksX18_init_3 : cX18_init.data.toList.drop 72 = dktX18_init_3 := dk_seg dksX18_init_2 24 rfl rfl
theorem dksX18_init_4 : cX18_init.data.toList.drop 96 = dktX18_init_4 := dk_seg dksX18_init_3 24 rfl rfl
theorem dksX18_init_5 : cX18_init.data.toList.drop 118 = dktX18_init_5 := dk_seg dksX18_init_4 22 rfl rfl
theorem dX18_init_0 : decode cX18_init 0 = .ok (.aload_n 0, 1) := dk_42 (dk_at dksX18_init_0 0 rfl rfl)
theorem dX18_init_1 : decode cX18_init 1 = .ok (.invokespecial 1, 3) := dk_183 0 1 (dk_at dksX18_init_0 1 rfl rfl)
theorem dX18_init_4 : decode cX18_init 4 = .ok (.aload_n 0, 1) := dk_42 (dk_at dksX18_init_0 4 rfl rfl)
theorem dX18_init_5 : decode cX18_init 5 = .ok (.aload_n 1, 1) := dk_43 (dk_at dksX18_init_0 5 rfl rfl)
theorem dX18_init_6 : decode cX18_init 6 = .ok (.putfield 7, 3) := dk_181 0 7 (dk_at dksX18_init_0 6 rfl rfl)
theorem dX18_init_9 : decode cX18_init 9 = .ok (.aload_n 0, 1) := dk_42 (dk_at dksX18_init_0 9 rfl rfl)
theorem dX18_init_10 : decode cX18_init 10 = .ok (.iload_n 2, 1) := dk_28 (dk_at dksX18_init_0 10 rfl rfl)
theorem dX18_init_11 : decode cX18_init 11 = .ok (.putfield 13, 3) := dk_181 0 13 (dk_at dksX18_init_0 11 rfl rfl)
theorem dX18_init_14 : decode cX18_init 14 = .ok (.aload_n 0, 1) := dk_42 (dk_at dksX18_init_0 14 rfl rfl)
theorem dX18_init_15 : decode cX18_init 15 = .ok (.iload_n 3, 1) := dk_29 (dk_at dksX18_init_0 15 rfl rfl)
theorem dX18_init_16 : decode cX18_init 16 = .ok (.putfield 17, 3) := dk_181 0 17 (dk_at dksX18_init_0 16 rfl rfl)
theorem dX18_init_19 : decode cX18_init 19 = .ok (.aload_n 0, 1) := dk_42 (dk_at dksX18_init_0 19 rfl rfl)
theorem dX18_init_20 : decode cX18_init 20 = .ok (.aload_n 1, 1) := dk_43 (dk_at dksX18_init_0 20 rfl rfl)
theorem dX18_init_21 : decode cX18_init 21 = .ok (.getfield 20, 3) := dk_180 0 20 (dk_at dksX18_init_0 21 rfl rfl)
theorem dX18_init_24 : decode cX18_init 24 = .ok (.newarray .long, 2) := dk_188_11 (dk_at dksX18_init_1 0 rfl rfl)
theorem dX18_init_26 : decode cX18_init 26 = .ok (.putfield 25, 3) := dk_181 0 25 (dk_at dksX18_init_1 2 rfl rfl)
theorem dX18_init_29 : decode cX18_init 29 = .ok (.aload_n 0, 1) := dk_42 (dk_at dksX18_init_1 5 rfl rfl)
theorem dX18_init_30 : decode cX18_init 30 = .ok (.aload_n 1, 1) := dk_43 (dk_at dksX18_init_1 6 rfl rfl)
theorem dX18_init_31 : decode cX18_init 31 = .ok (.getfield 29, 3) := dk_180 0 29 (dk_at dksX18_init_1 7 rfl rfl)
theorem dX18_init_34 : decode cX18_init 34 = .ok (.newarray .long, 2) := dk_188_11 (dk_at dksX18_init_1 10 rfl rfl)
theorem dX18_init_36 : decode cX18_init 36 = .ok (.putfield 32, 3) := dk_181 0 32 (dk_at dksX18_init_1 12 rfl rfl)
theorem dX18_init_39 : decode cX18_init 39 = .ok (.iconst 0, 1) := dk_3 (dk_at dksX18_init_1 15 rfl rfl)
theorem dX18_init_40 : decode cX18_init 40 = .ok (.istore 4, 2) := dk_54 4 (dk_at dksX18_init_1 16 rfl rfl)
theorem dX18_init_42 : decode cX18_init 42 = .ok (.iload 4, 2) := dk_21 4 (dk_at dksX18_init_1 18 rfl rfl)
theorem dX18_init_44 : decode cX18_init 44 = .ok (.aload_n 1, 1) := dk_43 (dk_at dksX18_init_1 20 rfl rfl)
theorem dX18_init_45 : decode cX18_init 45 = .ok (.getfield 20, 3) := dk_180 0 20 (dk_at dksX18_init_1 21 rfl rfl)
theorem dX18_init_48 : decode cX18_init 48 = .ok (.if_icmp .ge 63, 3) := dk_162 0 63 (dk_at dksX18_init_2 0 rfl rfl)
theorem dX18_init_51 : decode cX18_init 51 = .ok (.iconst 0, 1) := dk_3 (dk_at dksX18_init_2 3 rfl rfl)
theorem dX18_init_52 : decode cX18_init 52 = .ok (.istore 5, 2) := dk_54 5 (dk_at dksX18_init_2 4 rfl rfl)
theorem dX18_init_54 : decode cX18_init 54 = .ok (.iload 5, 2) := dk_21 5 (dk_at dksX18_init_2 6 rfl rfl)
theorem dX18_init_56 : decode cX18_init 56 = .ok (.aload_n 1, 1) := dk_43 (dk_at dksX18_init_2 8 rfl rfl)
theorem dX18_init_57 : decode cX18_init 57 = .ok (.getfield 29, 3) := dk_180 0 29 (dk_at dksX18_init_2 9 rfl rfl)
theorem dX18_init_60 : decode cX18_init 60 = .ok (.if_icmp .ge 45, 3) := dk_162 0 45 (dk_at dksX18_init_2 12 rfl rfl)
theorem dX18_init_63 : decode cX18_init 63 = .ok (.iload_n 2, 1) := dk_28 (dk_at dksX18_init_2 15 rfl rfl)
theorem dX18_init_64 : decode cX18_init 64 = .ok (.iload 4, 2) := dk_21 4 (dk_at dksX18_init_2 16 rfl rfl)
theorem dX18_init_66 : decode cX18_init 66 = .ok (.invokestatic 35, 3) := dk_184 0 35 (dk_at dksX18_init_2 18 rfl rfl)
theorem dX18_init_69 : decode cX18_init 69 = .ok (.ifCond .eq 30, 3) := dk_153 0 30 (dk_at dksX18_init_2 21 rfl rfl)
theorem dX18_init_72 : decode cX18_init 72 = .ok (.iload_n 3, 1) := dk_29 (dk_at dksX18_init_3 0 rfl rfl)
theorem dX18_init_73 : decode cX18_init 73 = .ok (.iload 5, 2) := dk_21 5 (dk_at dksX18_init_3 1 rfl rfl)
theorem dX18_init_75 : decode cX18_init 75 = .ok (.invokestatic 35, 3) := dk_184 0 35 (dk_at dksX18_init_3 3 rfl rfl)
theorem dX18_init_78 : decode cX18_init 78 = .ok (.ifCond .eq 21, 3) := dk_153 0 21 (dk_at dksX18_init_3 6 rfl rfl)
theorem dX18_init_81 : decode cX18_init 81 = .ok (.aload_n 0, 1) := dk_42 (dk_at dksX18_init_3 9 rfl rfl)
theorem dX18_init_82 : decode cX18_init 82 = .ok (.iload 4, 2) := dk_21 4 (dk_at dksX18_init_3 10 rfl rfl)
theorem dX18_init_84 : decode cX18_init 84 = .ok (.iload 5, 2) := dk_21 5 (dk_at dksX18_init_3 12 rfl rfl)
theorem dX18_init_86 : decode cX18_init 86 = .ok (.aload_n 1, 1) := dk_43 (dk_at dksX18_init_3 14 rfl rfl)
theorem dX18_init_87 : decode cX18_init 87 = .ok (.iload_n 2, 1) := dk_28 (dk_at dksX18_init_3 15 rfl rfl)
theorem dX18_init_88 : decode cX18_init 88 = .ok (.iload_n 3, 1) := dk_29 (dk_at dksX18_init_3 16 rfl rfl)
theorem dX18_init_89 : decode cX18_init 89 = .ok (.iload 4, 2) := dk_21 4 (dk_at dksX18_init_3 17 rfl rfl)
theorem dX18_init_91 : decode cX18_init 91 = .ok (.iload 5, 2) := dk_21 5 (dk_at dksX18_init_3 19 rfl rfl)
theorem dX18_init_93 : decode cX18_init 93 = .ok (.invokevirtual 41, 3) := dk_182 0 41 (dk_at dksX18_init_3 21 rfl rfl)
theorem dX18_init_96 : decode cX18_init 96 = .ok (.invokevirtual 45, 3) := dk_182 0 45 (dk_at dksX18_init_4 0 rfl rfl)
theorem dX18_init_99 : decode cX18_init 99 = .ok (.iinc 5 1, 3) := dk_132 5 1 (dk_at dksX18_init_4 3 rfl rfl)
theorem dX18_init_102 : decode cX18_init 102 = .ok (.goto (-48), 3) := dk_167 255 208 (dk_at dksX18_init_4 6 rfl rfl)
theorem dX18_init_105 : decode cX18_init 105 = .ok (.iinc 4 1, 3) := dk_132 4 1 (dk_at dksX18_init_4 9 rfl rfl)
theorem dX18_init_108 : decode cX18_init 108 = .ok (.goto (-66), 3) := dk_167 255 190 (dk_at dksX18_init_4 12 rfl rfl)
theorem dX18_init_111 : decode cX18_init 111 = .ok (.aload_n 0, 1) := dk_42 (dk_at dksX18_init_4 15 rfl rfl)
theorem dX18_init_112 : decode cX18_init 112 = .ok (.aload_n 1, 1) := dk_43 (dk_at dksX18_init_4 16 rfl rfl)
theorem dX18_init_113 : decode cX18_init 113 = .ok (.iload_n 2, 1) := dk_28 (dk_at dksX18_init_4 17 rfl rfl)
theorem dX18_init_114 : decode cX18_init 114 = .ok (.iload_n 3, 1) := dk_29 (dk_at dksX18_init_4 18 rfl rfl)
theorem dX18_init_115 : decode cX18_init 115 = .ok (.invokevirtual 49, 3) := dk_182 0 49 (dk_at dksX18_init_4 19 rfl rfl)
theorem dX18_init_118 : decode cX18_init 118 = .ok (.putfield 53, 3) := dk_181 0 53 (dk_at dksX18_init_5 0 rfl rfl)
theorem dX18_init_121 : decode cX18_init 121 = .ok (.aload_n 0, 1) := dk_42 (dk_at dksX18_init_5 3 rfl rfl)
theorem dX18_init_122 : decode cX18_init 122 = .ok (.getfield 57, 3) := dk_180 0 57 (dk_at dksX18_init_5 4 rfl rfl)
theorem dX18_init_125 : decode cX18_init 125 = .ok (.lconst 0, 1) := dk_9 (dk_at dksX18_init_5 7 rfl rfl)
theorem dX18_init_126 : decode cX18_init 126 = .ok (.lcmp, 1) := dk_148 (dk_at dksX18_init_5 8 rfl rfl)
theorem dX18_init_127 : decode cX18_init 127 = .ok (.ifCond .ge 7, 3) := dk_156 0 7 (dk_at dksX18_init_5 9 rfl rfl)
theorem dX18_init_130 : decode cX18_init 130 = .ok (.aload_n 0, 1) := dk_42 (dk_at dksX18_init_5 12 rfl rfl)
theorem dX18_init_131 : decode cX18_init 131 = .ok (.invokevirtual 60, 3) := dk_182 0 60 (dk_at dksX18_init_5 13 rfl rfl)
theorem dX18_init_134 : decode cX18_init 134 = .ok (.return_, 1) := dk_177 (dk_at dksX18_init_5 16 rfl rfl)
/-- PackingDuel$Kernel.<init>(LPackingDuel$Matrix;II)V -/
def zb497 (G : zPg) (C : zO) (args : List Value) (Q : zQ) (Y : zY) (σ : zS) : Prop := ∃ (a0 : Nat) (x1 : Option Nat) (x2 : Int32) (x3 : Int32), args = [.ref a0, va_rf x1, .int x2, .int x3] ∧ ((∃ a1, (some a0) = some a1 ∧ zput σ G.1 (some a0) 23 0 (va_rf x1) (fun s3 => zput s3 G.1 (some a0) 23 1 (.int x2) (fun s11 => zput s11 G.1 (some a0) 23 2 (.int x3) (fun s19 => zgI s19 x1 22 0 (fun v27 => znewA s19 1 v27 (.inr (.inl (fun _ => 0))) (fun s33 => zput s33 G.1 (some a0) 23 3 (va_rf (some s19.2.1)) (fun s36 => zgI s36 x1 22 1 (fun v44 => znewA s36 1 v44 (.inr (.inl (fun _ => 0))) (fun s50 => zput s50 G.1 (some a0) 23 4 (va_rf (some s36.2.1)) (fun s53 => ∃ n, zIt (fun _ _ => False) (fun rec63 (p61 : Int32) (s62 : zS) => zgI s62 x1 22 0 (fun v64 => ((v64 ≤ p61) → zrc s62 x1 22 (fun a74 => zcl C 496 [.ref a74, .int x2, .int x3] Y s62 (zqL (fun v71 s72 => zput s72 G.1 (some a0) 23 6 (.long v71) (fun s78 => zgL s78 (some a0) 23 5 (fun v86 => zJ (fun  (s92 : zS) => Q none s92) (fun (j93 : zS → Prop) => ((0 ≤ (lg_cmp v86 (0 : Int64))) → j93 s78) ∧ ((¬ 0 ≤ (lg_cmp v86 (0 : Int64))) → zrc s78 (some a0) 23 (fun a98 => zcl C 499 [.ref a98] Y s78 (zqV (fun s96 => j93 s96))))))))))) ∧ ((¬ v64 ≤ p61) → ∃ n, zIt (fun _ _ => False) (fun rec104 (p102 : Int32) (s103 : zS) => zgI s103 x1 22 1 (fun v105 => ((v105 ≤ p102) → (∀ v112 : Int32, v112 = p61 + (1 : Int32) → rec63 v112 s103)) ∧ ((¬ v105 ≤ p102) → zcl C 31 [.int x2, .int p61] Y s103 (zqI (fun v114 s115 => zJ (fun  (s117 : zS) => (∀ v119 : Int32, v119 = p102 + (1 : Int32) → rec104 v119 s117)) (fun (j118 : zS → Prop) => ((v114 = 0) → j118 s115) ∧ ((¬ v114 = 0) → zcl C 31 [.int x3, .int p102] Y s115 (zqI (fun v122 s123 => ((v122 = 0) → j118 s123) ∧ ((¬ v122 = 0) → zrc s123 x1 22 (fun a129 => zcl C 495 [.ref a129, .int x2, .int x3, .int p61, .int p102] Y s123 (zqL (fun v126 s127 => zrc s127 (some a0) 23 (fun a136 => zcl C 498 [.ref a136, .int p61, .int p102, .long v126] Y s127 (zqV (fun s134 => j118 s134)))))))))))))))) n (0 : Int32) s62))) n (0 : Int32) s53)))))))))))
set_option maxHeartbeats 4000000 in
theorem wk497 {l : Launch} {g : zG} {d : Nat} {C : zO} (hG : zGk g) (hC : zSound l g d C) {args : List Value} {Q : zQ} {Y : zY} {σ : zS} (hw : zb497 (zpg g) C args Q Y σ) : zMet l g (d + 1) (⟨"PackingDuel$Kernel", "<init>", "(LPackingDuel$Matrix;II)V"⟩, Cond.code ⟨"PackingDuel$Kernel", "<init>", "(LPackingDuel$Matrix;II)V"⟩ prog_10_method_1_code 6 (Option.none : Option FieldType)) args σ Q Y := by
  obtain ⟨a0, x1, x2, x3, rfl, hw⟩ := hw
  refine zof hG (by decide +kernel) [false, false, false, false] ⟨rfl, (zc_rf _), rfl, rfl, trivial⟩ (Nat.le_of_ble_eq_true rfl) (ls := [some (va_rf (some a0)), some (va_rf x1), some (.int x2), some (.int x3), none, none]) rfl ?_
  intro X hX hR hTb hd1 hd2 hl hg hnm
  subst hl
  subst hg
  have hd : zDep X d := ⟨hd1, hd2⟩
  refine z_aload_n hX dX18_init_0 rfl (i := 0) rfl ?_
  obtain ⟨a1, r2, hw⟩ := hw
  refine z_oinit hX hd dX18_init_1 q540 q191 q192 r2 rfl (zcs8 (Nat.le_of_ble_eq_true rfl)) ?_
  refine z_aload_n hX dX18_init_4 rfl (i := 0) rfl ?_
  refine z_aload_n hX dX18_init_5 rfl (i := 1) rfl ?_
  obtain ⟨a5, f6, r7, g8, m9, l10, hw⟩ := hw
  refine z_putF hX zc23 (k := 0) dX18_init_6 (Nat.le_of_ble_eq_true rfl) q562 rfl hnm rfl (zn_o _ _) (zf_o _ _) r7 g8 m9 l10 (z_nm (fun s3 e4 => ?_))
  have hw := hw s3 e4
  refine z_aload_n hX dX18_init_9 rfl (i := 0) rfl ?_
  refine z_iload_n hX dX18_init_10 rfl (i := 2) rfl ?_
  obtain ⟨a13, f14, r15, g16, m17, l18, hw⟩ := hw
  refine z_putF hX zc23 (k := 1) dX18_init_11 (Nat.le_of_ble_eq_true rfl) q563 rfl hnm rfl rfl rfl r15 g16 m17 l18 (z_nm (fun s11 e12 => ?_))
  have hw := hw s11 e12
  refine z_aload_n hX dX18_init_14 rfl (i := 0) rfl ?_
  refine z_iload_n hX dX18_init_15 rfl (i := 3) rfl ?_
  obtain ⟨a21, f22, r23, g24, m25, l26, hw⟩ := hw
  refine z_putF hX zc23 (k := 2) dX18_init_16 (Nat.le_of_ble_eq_true rfl) q565 rfl hnm rfl rfl rfl r23 g24 m25 l26 (z_nm (fun s19 e20 => ?_))
  have hw := hw s19 e20
  refine z_aload_n hX dX18_init_19 rfl (i := 0) rfl ?_
  refine z_aload_n hX dX18_init_20 rfl (i := 1) rfl ?_
  obtain ⟨a28, f29, v27, r30, m31, e32, hw⟩ := hw
  refine z_get hX zc22 (k := 0) dX18_init_21 (Nat.le_of_ble_eq_true rfl) (zlkN hX "PackingDuel" q497) r30 m31 e32 ?_
  refine z_newL hX dX18_init_24 q590 hw.1 hw.2.1 hw.2.2.1 hw.2.2.2.1 (fun z34 => z_nm (fun s33 e35 => ?_))
  have hw := hw.2.2.2.2 z34 s33 e35
  obtain ⟨a38, f39, r40, g41, m42, l43, hw⟩ := hw
  refine z_putF hX zc23 (k := 3) dX18_init_26 (Nat.le_of_ble_eq_true rfl) q567 rfl hnm rfl (zn_a _ _) (zf_a _ _) r40 g41 m42 l43 (z_nm (fun s36 e37 => ?_))
  have hw := hw s36 e37
  refine z_aload_n hX dX18_init_29 rfl (i := 0) rfl ?_
  refine z_aload_n hX dX18_init_30 rfl (i := 1) rfl ?_
  obtain ⟨a45, f46, v44, r47, m48, e49, hw⟩ := hw
  refine z_get hX zc22 (k := 1) dX18_init_31 (Nat.le_of_ble_eq_true rfl) (zlkN hX "PackingDuel" q500) r47 m48 e49 ?_
  refine z_newL hX dX18_init_34 q590 hw.1 hw.2.1 hw.2.2.1 hw.2.2.2.1 (fun z51 => z_nm (fun s50 e52 => ?_))
  have hw := hw.2.2.2.2 z51 s50 e52
  obtain ⟨a55, f56, r57, g58, m59, l60, hw⟩ := hw
  refine z_putF hX zc23 (k := 4) dX18_init_36 (Nat.le_of_ble_eq_true rfl) q569 rfl hnm rfl (zn_a _ _) (zf_a _ _) r57 g58 m59 l60 (z_nm (fun s53 e54 => ?_))
  have hw := hw s53 e54
  refine z_iconst hX (v := (0 : Int32)) dX18_init_39 (by decide) ?_
  refine z_istore hX dX18_init_40 (i := 4) (Nat.le_of_ble_eq_true rfl) rfl (ls2 := [some (va_rf (some a0)), some (va_rf x1), some (.int x2), some (.int x3), some (.int (0 : Int32)), none]) rfl ?_
  obtain ⟨n141, hw⟩ := hw
  refine zIt_w (P := fun (j : Int32 → zS → Prop) => ∀ (p61 : Int32) (s62 : zS), j p61 s62 → zW X s62 42 [some (va_rf (some a0)), some (va_rf x1), some (.int x2), some (.int x3), some (.int p61), none] []) (fun _ _ h => h.elim) (fun rec63 hrec63 p61 s62 hw => ?_) n141 _ _ hw
  refine z_iload hX dX18_init_42 (i := 4) rfl ?_
  refine z_aload_n hX dX18_init_44 rfl (i := 1) rfl ?_
  obtain ⟨a65, f66, v64, r67, m68, e69, hw⟩ := hw
  refine z_get hX zc22 (k := 0) dX18_init_45 (Nat.le_of_ble_eq_true rfl) (zlkN hX "PackingDuel" q497) r67 m68 e69 ?_
  refine z_icmp_ge hX dX18_init_48 (tgt := 111) rfl (fun c70 => ?_) (fun c70 => ?_)
  · have hw := hw.1 c70
    refine z_aload_n hX dX18_init_111 rfl (i := 0) rfl ?_
    refine z_aload_n hX dX18_init_112 rfl (i := 1) rfl ?_
    refine z_iload_n hX dX18_init_113 rfl (i := 2) rfl ?_
    refine z_iload_n hX dX18_init_114 rfl (i := 3) rfl ?_
    obtain ⟨a74, f75, r76, m77, hw⟩ := hw
    refine z_invV hX hd r76 (ci := 22) rfl rfl m77 dX18_init_115 (hC 496 _ zm496 _ _ _ _ hw) q557 q548 q549 zh43 q550 q176 zn496 rfl (Nat.le_of_ble_eq_true rfl) (st := [va_rf (some a0)]) rfl (zcs8 (Nat.le_of_ble_eq_true rfl)) rfl (zkL (fun v71 s72 hw => ?_)) (zout hX hR hTb)
    obtain ⟨a80, f81, r82, g83, m84, l85, hw⟩ := hw
    refine z_put hX zc23 (k := 6) dX18_init_118 (Nat.le_of_ble_eq_true rfl) (zlk hX q573) rfl rfl rfl r82 g83 m84 l85 (z_nm (fun s78 e79 => ?_))
    have hw := hw s78 e79
    refine z_aload_n hX dX18_init_121 rfl (i := 0) rfl ?_
    obtain ⟨a87, f88, v86, r89, m90, e91, hw⟩ := hw
    refine z_get hX zc23 (k := 5) dX18_init_122 (Nat.le_of_ble_eq_true rfl) (zlk hX q571) r89 m90 e91 ?_
    refine z_lconst hX (v := (0 : Int64)) dX18_init_125 (by decide) ?_
    refine z_lcmp hX dX18_init_126 ?_
    refine zJ_w (P := fun (j : zS → Prop) => ∀  (s92 : zS), j  s92 → zW X s92 134 [none, none, none, none, none, none] []) hw (fun  s92 hw => ?_) (fun j93 hj93 hw => ?_)
    · exact z_return hX hR dX18_init_134 hw
    · refine z_if_ge hX dX18_init_127 (tgt := 134) rfl (fun c94 => ?_) (fun c94 => ?_)
      · have hw := hw.1 c94
        refine z_sub (ls' := [none, none, none, none, none, none]) (zsN (zsN (zsN (zsN (zsN (zsN (zs0))))))) ?_
        exact hj93  _ hw
      · have hw := hw.2 c94
        refine z_aload_n hX dX18_init_130 rfl (i := 0) rfl ?_
        obtain ⟨a98, f99, r100, m101, hw⟩ := hw
        refine z_invV hX hd r100 (ci := 23) rfl rfl m101 dX18_init_131 (hC 499 _ zm499 _ _ _ _ hw) q558 q560 qs6 zh44 q561 q177 zn499 rfl (Nat.le_of_ble_eq_true rfl) (st := []) rfl (zcs8 (Nat.le_of_ble_eq_true rfl)) rfl (zkV (fun s96 hw => ?_)) (zout hX hR hTb)
        refine z_sub (ls' := [none, none, none, none, none, none]) (zsN (zsN (zsN (zsN (zsN (zsN (zs0))))))) ?_
        exact hj93  _ hw
  · have hw := hw.2 c70
    refine z_iconst hX (v := (0 : Int32)) dX18_init_51 (by decide) ?_
    refine z_istore hX dX18_init_52 (i := 5) (Nat.le_of_ble_eq_true rfl) rfl (ls2 := [some (va_rf (some a0)), some (va_rf x1), some (.int x2), some (.int x3), some (.int p61), some (.int (0 : Int32))]) rfl ?_
    obtain ⟨n140, hw⟩ := hw
    refine zIt_w (P := fun (j : Int32 → zS → Prop) => ∀ (p102 : Int32) (s103 : zS), j p102 s103 → zW X s103 54 [some (va_rf (some a0)), some (va_rf x1), some (.int x2), some (.int x3), some (.int p61), some (.int p102)] []) (fun _ _ h => h.elim) (fun rec104 hrec104 p102 s103 hw => ?_) n140 _ _ hw
    refine z_iload hX dX18_init_54 (i := 5) rfl ?_
    refine z_aload_n hX dX18_init_56 rfl (i := 1) rfl ?_
    obtain ⟨a106, f107, v105, r108, m109, e110, hw⟩ := hw
    refine z_get hX zc22 (k := 1) dX18_init_57 (Nat.le_of_ble_eq_true rfl) (zlkN hX "PackingDuel" q500) r108 m109 e110 ?_
    refine z_icmp_ge hX dX18_init_60 (tgt := 105) rfl (fun c111 => ?_) (fun c111 => ?_)
    · have hw := hw.1 c111
      obtain ⟨v112, e113⟩ : ∃ y : Int32, y = p61 + (1 : Int32) := ⟨_, rfl⟩
      refine z_iinc hX dX18_init_105 (i := 4) (v := v112) rfl (by rw [e113]; rfl) (Nat.le_of_ble_eq_true rfl) rfl (ls2 := [some (va_rf (some a0)), some (va_rf x1), some (.int x2), some (.int x3), some (.int v112), some (.int p102)]) rfl ?_
      have hw := hw v112 e113
      refine z_goto hX dX18_init_108 (tgt := 42) rfl ?_
      refine z_sub (ls' := [some (va_rf (some a0)), some (va_rf x1), some (.int x2), some (.int x3), some (.int v112), none]) (zsS (zsS (zsS (zsS (zsS (zsN (zs0))))))) ?_
      exact hrec63 _ _ hw
    · have hw := hw.2 c111
      refine z_iload_n hX dX18_init_63 rfl (i := 2) rfl ?_
      refine z_iload hX dX18_init_64 (i := 4) rfl ?_
      refine z_invSN hX hd dX18_init_66 (hC 31 _ zm31 _ _ _ _ hw) q541 q523 zh1 q524 q130 zn31 rfl (Nat.le_of_ble_eq_true rfl) (st := []) rfl (zcs8 (Nat.le_of_ble_eq_true rfl)) rfl (zkI (fun v114 s115 hw => ?_)) (zout hX hR hTb)
      refine zJ_w (P := fun (j : zS → Prop) => ∀  (s117 : zS), j  s117 → zW X s117 99 [some (va_rf (some a0)), some (va_rf x1), some (.int x2), some (.int x3), some (.int p61), some (.int p102)] []) hw (fun  s117 hw => ?_) (fun j118 hj118 hw => ?_)
      · obtain ⟨v119, e120⟩ : ∃ y : Int32, y = p102 + (1 : Int32) := ⟨_, rfl⟩
        refine z_iinc hX dX18_init_99 (i := 5) (v := v119) rfl (by rw [e120]; rfl) (Nat.le_of_ble_eq_true rfl) rfl (ls2 := [some (va_rf (some a0)), some (va_rf x1), some (.int x2), some (.int x3), some (.int p61), some (.int v119)]) rfl ?_
        have hw := hw v119 e120
        refine z_goto hX dX18_init_102 (tgt := 54) rfl ?_
        exact hrec104 _ _ hw
      · refine z_if_eq hX dX18_init_69 (tgt := 99) rfl (fun c121 => ?_) (fun c121 => ?_)
        · have hw := hw.1 c121
          exact hj118  _ hw
        · have hw := hw.2 c121
          refine z_iload_n hX dX18_init_72 rfl (i := 3) rfl ?_
          refine z_iload hX dX18_init_73 (i := 5) rfl ?_
          refine z_invSN hX hd dX18_init_75 (hC 31 _ zm31 _ _ _ _ hw) q541 q523 zh1 q524 q130 zn31 rfl (Nat.le_of_ble_eq_true rfl) (st := []) rfl (zcs8 (Nat.le_of_ble_eq_true rfl)) rfl (zkI (fun v122 s123 hw => ?_)) (zout hX hR hTb)
          refine z_if_eq hX dX18_init_78 (tgt := 99) rfl (fun c125 => ?_) (fun c125 => ?_)
          · have hw := hw.1 c125
            exact hj118  _ hw
          · have hw := hw.2 c125
            refine z_aload_n hX dX18_init_81 rfl (i := 0) rfl ?_
            refine z_iload hX dX18_init_82 (i := 4) rfl ?_
            refine z_iload hX dX18_init_84 (i := 5) rfl ?_
            refine z_aload_n hX dX18_init_86 rfl (i := 1) rfl ?_
            refine z_iload_n hX dX18_init_87 rfl (i := 2) rfl ?_
            refine z_iload_n hX dX18_init_88 rfl (i := 3) rfl ?_
            refine z_iload hX dX18_init_89 (i := 4) rfl ?_
            refine z_iload hX dX18_init_91 (i := 5) rfl ?_
            obtain ⟨a129, f130, r131, m132, hw⟩ := hw
            refine z_invV hX hd r131 (ci := 22) rfl rfl m132 dX18_init_93 (hC 495 _ zm495 _ _ _ _ hw) q542 q543 q544 zh43 q545 q176 zn495 rfl (Nat.le_of_ble_eq_true rfl) (st := [.int p102, .int p61, va_rf (some a0)]) rfl (zcs8 (Nat.le_of_ble_eq_true rfl)) rfl (zkL (fun v126 s127 hw => ?_)) (zout hX hR hTb)
            obtain ⟨a136, f137, r138, m139, hw⟩ := hw
            refine z_invV hX hd r138 (ci := 23) rfl rfl m139 dX18_init_96 (hC 498 _ zm498 _ _ _ _ hw) q553 q555 qs5 zh44 q556 q177 zn498 rfl (Nat.le_of_ble_eq_true rfl) (st := []) rfl (zcs8 (Nat.le_of_ble_eq_true rfl)) rfl (zkV (fun s134 hw => ?_)) (zout hX hR hTb)
            exact hj118  _ hw
abbrev cX18_add : ByteArray := prog_10_method_2_code
def yX18_add : MethodName := ⟨RX18, "add", "(IIJ)V"⟩
def dkwX18_add_1 : List UInt8 := [180, 0, 57, 33, 97, 181, 0, 57, 177]
abbrev dktX18_add_1 : List UInt8 := dkwX18_add_1 ++ []
def dkwX18_add_0 : List UInt8 := [42, 180, 0, 25, 27, 92, 47, 33, 97, 80, 42, 180, 0, 32, 28, 92, 47, 33, 97, 80, 42, 89]
abbrev dktX18_add_0 : List UInt8 := dkwX18_add_0 ++ dktX18_add_1
theorem dksX18_add_0 : cX18_add.data.toList.drop 0 = dktX18_add_0 := by decide +kernel
theorem dksX18_add_1 : cX18_add.data.toList.drop 22 = dktX18_add_1 := dk_seg dksX18_add_0 22 rfl rfl
theorem dX18_add_0 : decode cX18_add 0 = .ok (.aload_n 0, 1) := dk_42 (dk_at dksX18_add_0 0 rfl rfl)
theorem dX18_add_1 : decode cX18_add 1 = .ok (.getfield 25, 3) := dk_180 0 25 (dk_at dksX18_add_0 1 rfl rfl)
theorem dX18_add_4 : decode cX18_add 4 = .ok (.iload_n 1, 1) := dk_27 (dk_at dksX18_add_0 4 rfl rfl)
theorem dX18_add_5 : decode cX18_add 5 = .ok (.dup2, 1) := dk_92 (dk_at dksX18_add_0 5 rfl rfl)
theorem dX18_add_6 : decode cX18_add 6 = .ok (.laload, 1) := dk_47 (dk_at dksX18_add_0 6 rfl rfl)
theorem dX18_add_7 : decode cX18_add 7 = .ok (.lload_n 3, 1) := dk_33 (dk_at dksX18_add_0 7 rfl rfl)
theorem dX18_add_8 : decode cX18_add 8 = .ok (.ladd, 1) := dk_97 (dk_at dksX18_add_0 8 rfl rfl)
theorem dX18_add_9 : decode cX18_add 9 = .ok (.lastore, 1) := dk_80 (dk_at dksX18_add_0 9 rfl rfl)
theorem dX18_add_10 : decode cX18_add 10 = .ok (.aload_n 0, 1) := dk_42 (dk_at dksX18_add_0 10 rfl rfl)
theorem dX18_add_11 : decode cX18_add 11 = .ok (.getfield 32, 3) := dk_180 0 32 (dk_at dksX18_add_0 11 rfl rfl)
theorem dX18_add_14 : decode cX18_add 14 = .ok (.iload_n 2, 1) := dk_28 (dk_at dksX18_add_0 14 rfl rfl)
theorem dX18_add_15 : decode cX18_add 15 = .ok (.dup2, 1) := dk_92 (dk_at dksX18_add_0 15 rfl rfl)
theorem dX18_add_16 : decode cX18_add 16 = .ok (.laload, 1) := dk_47 (dk_at dksX18_add_0 16 rfl rfl)
theorem dX18_add_17 : decode cX18_add 17 = .ok (.lload_n 3, 1) := dk_33 (dk_at dksX18_add_0 17 rfl rfl)
theorem dX18_add_18 : decode cX18_add 18 = .ok (.ladd, 1) := dk_97 (dk_at dksX18_add_0 18 rfl rfl)
theorem dX18_add_19 : decode cX18_add 19 = .ok (.lastore, 1) := dk_80 (dk_at dksX18_add_0 19 rfl rfl)
theorem dX18_add_20 : decode cX18_add 20 = .ok (.aload_n 0, 1) := dk_42 (dk_at dksX18_add_0 20 rfl rfl)
theorem dX18_add_21 : decode cX18_add 21 = .ok (.dup, 1) := dk_89 (dk_at dksX18_add_0 21 rfl rfl)
theorem dX18_add_22 : decode cX18_add 22 = .ok (.getfield 57, 3) := dk_180 0 57 (dk_at dksX18_add_1 0 rfl rfl)
theorem dX18_add_25 : decode cX18_add 25 = .ok (.lload_n 3, 1) := dk_33 (dk_at dksX18_add_1 3 rfl rfl)
theorem dX18_add_26 : decode cX18_add 26 = .ok (.ladd, 1) := dk_97 (dk_at dksX18_add_1 4 rfl rfl)
theorem dX18_add_27 : decode cX18_add 27 = .ok (.putfield 57, 3) := dk_181 0 57 (dk_at dksX18_add_1 5 rfl rfl)
theorem dX18_add_30 : decode cX18_add 30 = .ok (.return_, 1) := dk_177 (dk_at dksX18_add_1 8 rfl rfl)
/-- PackingDuel$Kernel.add(IIJ)V -/
def zb498 (G : zPg) (C : zO) (args : List Value) (Q : zQ) (Y : zY) (σ : zS) : Prop := ∃ (a0 : Nat) (x1 : Int32) (x2 : Int32) (x3 : Int64), args = [.ref a0, .int x1, .int x2, .long x3] ∧ (zgR σ (some a0) 23 3 (fun v1 => zaL σ v1 x1 (fun v13 => zsL σ G.1 v1 x1 (v13 + x3) (fun s22 => zgR s22 (some a0) 23 4 (fun v24 => zaL s22 v24 x2 (fun v36 => zsL s22 G.1 v24 x2 (v36 + x3) (fun s45 => zgL s45 (some a0) 23 5 (fun v47 => zput s45 G.1 (some a0) 23 5 (.long (v47 + x3)) (fun s53 => Q none s53)))))))))
set_option maxHeartbeats 4000000 in
theorem wk498 {l : Launch} {g : zG} {d : Nat} {C : zO} (hG : zGk g) (hC : zSound l g d C) {args : List Value} {Q : zQ} {Y : zY} {σ : zS} (hw : zb498 (zpg g) C args Q Y σ) : zMet l g (d + 1) (⟨"PackingDuel$Kernel", "add", "(IIJ)V"⟩, Cond.code ⟨"PackingDuel$Kernel", "add", "(IIJ)V"⟩ prog_10_method_2_code 5 (Option.none : Option FieldType)) args σ Q Y := by
  obtain ⟨a0, x1, x2, x3, rfl, hw⟩ := hw
  refine zof hG (by decide +kernel) [false, false, false, true] ⟨rfl, rfl, rfl, rfl, trivial⟩ (Nat.le_of_ble_eq_true rfl) (ls := [some (va_rf (some a0)), some (.int x1), some (.int x2), some (.long x3), none]) rfl ?_
  intro X hX hR hTb hd1 hd2 hl hg hnm
  subst hl
  subst hg
  have hd : zDep X d := ⟨hd1, hd2⟩
  refine z_aload_n hX dX18_add_0 rfl (i := 0) rfl ?_
  obtain ⟨a2, f3, v1, r4, m5, e6, hw⟩ := hw
  refine z_get hX zc23 (k := 3) dX18_add_1 (Nat.le_of_ble_eq_true rfl) (zlk hX q567) r4 m5 e6 ?_
  refine z_iload_n hX dX18_add_4 rfl (i := 1) rfl ?_
  refine z_dup2 hX dX18_add_5 rfl (zc_rf _) ?_
  obtain ⟨a7, n8, f9, r10, m11, i12, hw⟩ := hw
  refine z_lald hX dX18_add_6 r10 m11 i12 ?_
  revert hw
  generalize f9 (Int32.toNatClampNeg x1) = v13
  intro hw
  refine z_lload_n hX dX18_add_7 rfl (i := 3) rfl ?_
  refine z_ladd hX dX18_add_8 ?_
  obtain ⟨a15, n16, f17, r18, g19, m20, i21, hw⟩ := hw
  refine z_last hX dX18_add_9 r18 g19 m20 i21 (z_nm (fun s22 e23 => ?_))
  have hw := hw s22 e23
  refine z_aload_n hX dX18_add_10 rfl (i := 0) rfl ?_
  obtain ⟨a25, f26, v24, r27, m28, e29, hw⟩ := hw
  refine z_get hX zc23 (k := 4) dX18_add_11 (Nat.le_of_ble_eq_true rfl) (zlk hX q569) r27 m28 e29 ?_
  refine z_iload_n hX dX18_add_14 rfl (i := 2) rfl ?_
  refine z_dup2 hX dX18_add_15 rfl (zc_rf _) ?_
  obtain ⟨a30, n31, f32, r33, m34, i35, hw⟩ := hw
  refine z_lald hX dX18_add_16 r33 m34 i35 ?_
  revert hw
  generalize f32 (Int32.toNatClampNeg x2) = v36
  intro hw
  refine z_lload_n hX dX18_add_17 rfl (i := 3) rfl ?_
  refine z_ladd hX dX18_add_18 ?_
  obtain ⟨a38, n39, f40, r41, g42, m43, i44, hw⟩ := hw
  refine z_last hX dX18_add_19 r41 g42 m43 i44 (z_nm (fun s45 e46 => ?_))
  have hw := hw s45 e46
  refine z_aload_n hX dX18_add_20 rfl (i := 0) rfl ?_
  refine z_dup hX dX18_add_21 (zc_rf _) ?_
  obtain ⟨a48, f49, v47, r50, m51, e52, hw⟩ := hw
  refine z_get hX zc23 (k := 5) dX18_add_22 (Nat.le_of_ble_eq_true rfl) (zlk hX q571) r50 m51 e52 ?_
  refine z_lload_n hX dX18_add_25 rfl (i := 3) rfl ?_
  refine z_ladd hX dX18_add_26 ?_
  obtain ⟨a55, f56, r57, g58, m59, l60, hw⟩ := hw
  refine z_put hX zc23 (k := 5) dX18_add_27 (Nat.le_of_ble_eq_true rfl) (zlk hX q571) rfl rfl rfl r57 g58 m59 l60 (z_nm (fun s53 e54 => ?_))
  have hw := hw s53 e54
  exact z_return hX hR dX18_add_30 hw
abbrev cX18_turn : ByteArray := prog_10_method_3_code
def yX18_turn : MethodName := ⟨RX18, "turn", "()V"⟩
def dkwX18_turn_3 : List UInt8 := [47, 117, 80, 132, 1, 1, 167, 255, 231, 177]
abbrev dktX18_turn_3 : List UInt8 := dkwX18_turn_3 ++ []
def dkwX18_turn_2 : List UInt8 := [167, 255, 231, 3, 60, 27, 42, 180, 0, 32, 190, 162, 0, 22, 42, 180, 0, 32, 27, 42, 180, 0, 32, 27]
abbrev dktX18_turn_2 : List UInt8 := dkwX18_turn_2 ++ dktX18_turn_3
def dkwX18_turn_1 : List UInt8 := [180, 0, 25, 190, 162, 0, 22, 42, 180, 0, 25, 27, 42, 180, 0, 25, 27, 47, 117, 80, 132, 1, 1]
abbrev dktX18_turn_1 : List UInt8 := dkwX18_turn_1 ++ dktX18_turn_2
def dkwX18_turn_0 : List UInt8 := [42, 42, 180, 0, 57, 117, 181, 0, 57, 42, 42, 180, 0, 53, 117, 181, 0, 53, 3, 60, 27, 42]
abbrev dktX18_turn_0 : List UInt8 := dkwX18_turn_0 ++ dktX18_turn_1
theorem dksX18_turn_0 : cX18_turn.data.toList.drop 0 = dktX18_turn_0 := by decide +kernel
theorem dksX18_turn_1 : cX18_turn.data.toList.drop 22 = dktX18_turn_1 := dk_seg dksX18_turn_0 22 rfl rfl
theorem dksX18_turn_2 : cX18_turn.data.toList.drop 45 = dktX18_turn_2 := dk_seg dksX18_turn_1 23 rfl rfl
theorem dksX18_turn_3 : cX18_turn.data.toList.drop 69 = dktX18_turn_3 := dk_seg dksX18_turn_2 24 rfl rfl
theorem dX18_turn_0 : decode cX18_turn 0 = .ok (.aload_n 0, 1) := dk_42 (dk_at dksX18_turn_0 0 rfl rfl)
theorem dX18_turn_1 : decode cX18_turn 1 = .ok (.aload_n 0, 1) := dk_42 (dk_at dksX18_turn_0 1 rfl rfl)
theorem dX18_turn_2 : decode cX18_turn 2 = .ok (.getfield 57, 3) := dk_180 0 57 (dk_at dksX18_turn_0 2 rfl rfl)
theorem dX18_turn_5 : decode cX18_turn 5 = .ok (.lneg, 1) := dk_117 (dk_at dksX18_turn_0 5 rfl rfl)
theorem dX18_turn_6 : decode cX18_turn 6 = .ok (.putfield 57, 3) := dk_181 0 57 (dk_at dksX18_turn_0 6 rfl rfl)
theorem dX18_turn_9 : decode cX18_turn 9 = .ok (.aload_n 0, 1) := dk_42 (dk_at dksX18_turn_0 9 rfl rfl)
theorem dX18_turn_10 : decode cX18_turn 10 = .ok (.aload_n 0, 1) := dk_42 (dk_at dksX18_turn_0 10 rfl rfl)
theorem dX18_turn_11 : decode cX18_turn 11 = .ok (.getfield 53, 3) := dk_180 0 53 (dk_at dksX18_turn_0 11 rfl rfl)
theorem dX18_turn_14 : decode cX18_turn 14 = .ok (.lneg, 1) := dk_117 (dk_at dksX18_turn_0 14 rfl rfl)
theorem dX18_turn_15 : decode cX18_turn 15 = .ok (.putfield 53, 3) := dk_181 0 53 (dk_at dksX18_turn_0 15 rfl rfl)
theorem dX18_turn_18 : decode cX18_turn 18 = .ok (.iconst 0, 1) := dk_3 (dk_at dksX18_turn_0 18 rfl rfl)
theorem dX18_turn_19 : decode cX18_turn 19 = .ok (.istore_n 1, 1) := dk_60 (dk_at dksX18_turn_0 19 rfl rfl)
theorem dX18_turn_20 : decode cX18_turn 20 = .ok (.iload_n 1, 1) := dk_27 (dk_at dksX18_turn_0 20 rfl rfl)
theorem dX18_turn_21 : decode cX18_turn 21 = .ok (.aload_n 0, 1) := dk_42 (dk_at dksX18_turn_0 21 rfl rfl)
theorem dX18_turn_22 : decode cX18_turn 22 = .ok (.getfield 25, 3) := dk_180 0 25 (dk_at dksX18_turn_1 0 rfl rfl)
theorem dX18_turn_25 : decode cX18_turn 25 = .ok (.arraylength, 1) := dk_190 (dk_at dksX18_turn_1 3 rfl rfl)
theorem dX18_turn_26 : decode cX18_turn 26 = .ok (.if_icmp .ge 22, 3) := dk_162 0 22 (dk_at dksX18_turn_1 4 rfl rfl)
theorem dX18_turn_29 : decode cX18_turn 29 = .ok (.aload_n 0, 1) := dk_42 (dk_at dksX18_turn_1 7 rfl rfl)
theorem dX18_turn_30 : decode cX18_turn 30 = .ok (.getfield 25, 3) := dk_180 0 25 (dk_at dksX18_turn_1 8 rfl rfl)
theorem dX18_turn_33 : decode cX18_turn 33 = .ok (.iload_n 1, 1) := dk_27 (dk_at dksX18_turn_1 11 rfl rfl)
theorem dX18_turn_34 : decode cX18_turn 34 = .ok (.aload_n 0, 1) := dk_42 (dk_at dksX18_turn_1 12 rfl rfl)
theorem dX18_turn_35 : decode cX18_turn 35 = .ok (.getfield 25, 3) := dk_180 0 25 (dk_at dksX18_turn_1 13 rfl rfl)
theorem dX18_turn_38 : decode cX18_turn 38 = .ok (.iload_n 1, 1) := dk_27 (dk_at dksX18_turn_1 16 rfl rfl)
theorem dX18_turn_39 : decode cX18_turn 39 = .ok (.laload, 1) := dk_47 (dk_at dksX18_turn_1 17 rfl rfl)
theorem dX18_turn_40 : decode cX18_turn 40 = .ok (.lneg, 1) := dk_117 (dk_at dksX18_turn_1 18 rfl rfl)
theorem dX18_turn_41 : decode cX18_turn 41 = .ok (.lastore, 1) := dk_80 (dk_at dksX18_turn_1 19 rfl rfl)
theorem dX18_turn_42 : decode cX18_turn 42 = .ok (.iinc 1 1, 3) := dk_132 1 1 (dk_at dksX18_turn_1 20 rfl rfl)
theorem dX18_turn_45 : decode cX18_turn 45 = .ok (.goto (-25), 3) := dk_167 255 231 (dk_at dksX18_turn_2 0 rfl rfl)
theorem dX18_turn_48 : decode cX18_turn 48 = .ok (.iconst 0, 1) := dk_3 (dk_at dksX18_turn_2 3 rfl rfl)
theorem dX18_turn_49 : decode cX18_turn 49 = .ok (.istore_n 1, 1) := dk_60 (dk_at dksX18_turn_2 4 rfl rfl)
theorem dX18_turn_50 : decode cX18_turn 50 = .ok (.iload_n 1, 1) := dk_27 (dk_at dksX18_turn_2 5 rfl rfl)
theorem dX18_turn_51 : decode cX18_turn 51 = .ok (.aload_n 0, 1) := dk_42 (dk_at dksX18_turn_2 6 rfl rfl)
theorem dX18_turn_52 : decode cX18_turn 52 = .ok (.getfield 32, 3) := dk_180 0 32 (dk_at dksX18_turn_2 7 rfl rfl)
theorem dX18_turn_55 : decode cX18_turn 55 = .ok (.arraylength, 1) := dk_190 (dk_at dksX18_turn_2 10 rfl rfl)
theorem dX18_turn_56 : decode cX18_turn 56 = .ok (.if_icmp .ge 22, 3) := dk_162 0 22 (dk_at dksX18_turn_2 11 rfl rfl)
theorem dX18_turn_59 : decode cX18_turn 59 = .ok (.aload_n 0, 1) := dk_42 (dk_at dksX18_turn_2 14 rfl rfl)
theorem dX18_turn_60 : decode cX18_turn 60 = .ok (.getfield 32, 3) := dk_180 0 32 (dk_at dksX18_turn_2 15 rfl rfl)
theorem dX18_turn_63 : decode cX18_turn 63 = .ok (.iload_n 1, 1) := dk_27 (dk_at dksX18_turn_2 18 rfl rfl)
theorem dX18_turn_64 : decode cX18_turn 64 = .ok (.aload_n 0, 1) := dk_42 (dk_at dksX18_turn_2 19 rfl rfl)
theorem dX18_turn_65 : decode cX18_turn 65 = .ok (.getfield 32, 3) := dk_180 0 32 (dk_at dksX18_turn_2 20 rfl rfl)
theorem dX18_turn_68 : decode cX18_turn 68 = .ok (.iload_n 1, 1) := dk_27 (dk_at dksX18_turn_2 23 rfl rfl)
theorem dX18_turn_69 : decode cX18_turn 69 = .ok (.laload, 1) := dk_47 (dk_at dksX18_turn_3 0 rfl rfl)
theorem dX18_turn_70 : decode cX18_turn 70 = .ok (.lneg, 1) := dk_117 (dk_at dksX18_turn_3 1 rfl rfl)
theorem dX18_turn_71 : decode cX18_turn 71 = .ok (.lastore, 1) := dk_80 (dk_at dksX18_turn_3 2 rfl rfl)
theorem dX18_turn_72 : decode cX18_turn 72 = .ok (.iinc 1 1, 3) := dk_132 1 1 (dk_at dksX18_turn_3 3 rfl rfl)
theorem dX18_turn_75 : decode cX18_turn 75 = .ok (.goto (-25), 3) := dk_167 255 231 (dk_at dksX18_turn_3 6 rfl rfl)
theorem dX18_turn_78 : decode cX18_turn 78 = .ok (.return_, 1) := dk_177 (dk_at dksX18_turn_3 9 rfl rfl)
/-- PackingDuel$Kernel.turn()V -/
def zb499 (G : zPg) (C : zO) (args : List Value) (Q : zQ) (Y : zY) (σ : zS) : Prop := ∃ (a0 : Nat), args = [.ref a0] ∧ (zgL σ (some a0) 23 5 (fun v1 => zput σ G.1 (some a0) 23 5 (.long (-v1)) (fun s7 => zgL s7 (some a0) 23 6 (fun v15 => zput s7 G.1 (some a0) 23 6 (.long (-v15)) (fun s21 => ∃ n, zIt (fun _ _ => False) (fun rec31 (p29 : Int32) (s30 : zS) => zgR s30 (some a0) 23 3 (fun v32 => zln s30 1 v32 (fun v42 => ((v42 ≤ p29) → ∃ n, zIt (fun _ _ => False) (fun rec47 (p45 : Int32) (s46 : zS) => zgR s46 (some a0) 23 4 (fun v48 => zln s46 1 v48 (fun v58 => ((v58 ≤ p45) → Q none s46) ∧ ((¬ v58 ≤ p45) → zgR s46 (some a0) 23 4 (fun v61 => zgR s46 (some a0) 23 4 (fun v67 => zaL s46 v67 p45 (fun v79 => zsL s46 G.1 v61 p45 (-v79) (fun s88 => (∀ v90 : Int32, v90 = p45 + (1 : Int32) → rec47 v90 s88))))))))) n (0 : Int32) s30) ∧ ((¬ v42 ≤ p29) → zgR s30 (some a0) 23 3 (fun v93 => zgR s30 (some a0) 23 3 (fun v99 => zaL s30 v99 p29 (fun v111 => zsL s30 G.1 v93 p29 (-v111) (fun s120 => (∀ v122 : Int32, v122 = p29 + (1 : Int32) → rec31 v122 s120))))))))) n (0 : Int32) s21)))))
set_option maxHeartbeats 4000000 in
theorem wk499 {l : Launch} {g : zG} {d : Nat} {C : zO} (hG : zGk g) (hC : zSound l g d C) {args : List Value} {Q : zQ} {Y : zY} {σ : zS} (hw : zb499 (zpg g) C args Q Y σ) : zMet l g (d + 1) (⟨"PackingDuel$Kernel", "turn", "()V"⟩, Cond.code ⟨"PackingDuel$Kernel", "turn", "()V"⟩ prog_10_method_3_code 2 (Option.none : Option FieldType)) args σ Q Y := by
  obtain ⟨a0, rfl, hw⟩ := hw
  refine zof hG (by decide +kernel) [false] ⟨rfl, trivial⟩ (Nat.le_of_ble_eq_true rfl) (ls := [some (va_rf (some a0)), none]) rfl ?_
  intro X hX hR hTb hd1 hd2 hl hg hnm
  subst hl
  subst hg
  have hd : zDep X d := ⟨hd1, hd2⟩
  refine z_aload_n hX dX18_turn_0 rfl (i := 0) rfl ?_
  refine z_aload_n hX dX18_turn_1 rfl (i := 0) rfl ?_
  obtain ⟨a2, f3, v1, r4, m5, e6, hw⟩ := hw
  refine z_get hX zc23 (k := 5) dX18_turn_2 (Nat.le_of_ble_eq_true rfl) (zlk hX q571) r4 m5 e6 ?_
  refine z_lneg hX dX18_turn_5 ?_
  obtain ⟨a9, f10, r11, g12, m13, l14, hw⟩ := hw
  refine z_put hX zc23 (k := 5) dX18_turn_6 (Nat.le_of_ble_eq_true rfl) (zlk hX q571) rfl rfl rfl r11 g12 m13 l14 (z_nm (fun s7 e8 => ?_))
  have hw := hw s7 e8
  refine z_aload_n hX dX18_turn_9 rfl (i := 0) rfl ?_
  refine z_aload_n hX dX18_turn_10 rfl (i := 0) rfl ?_
  obtain ⟨a16, f17, v15, r18, m19, e20, hw⟩ := hw
  refine z_get hX zc23 (k := 6) dX18_turn_11 (Nat.le_of_ble_eq_true rfl) (zlk hX q573) r18 m19 e20 ?_
  refine z_lneg hX dX18_turn_14 ?_
  obtain ⟨a23, f24, r25, g26, m27, l28, hw⟩ := hw
  refine z_put hX zc23 (k := 6) dX18_turn_15 (Nat.le_of_ble_eq_true rfl) (zlk hX q573) rfl rfl rfl r25 g26 m27 l28 (z_nm (fun s21 e22 => ?_))
  have hw := hw s21 e22
  refine z_iconst hX (v := (0 : Int32)) dX18_turn_18 (by decide) ?_
  refine z_istore_n hX dX18_turn_19 rfl (i := 1) (Nat.le_of_ble_eq_true rfl) (zc_rf _) (ls2 := [some (va_rf (some a0)), some (.int (0 : Int32))]) rfl ?_
  obtain ⟨n124, hw⟩ := hw
  refine zIt_w (P := fun (j : Int32 → zS → Prop) => ∀ (p29 : Int32) (s30 : zS), j p29 s30 → zW X s30 20 [some (va_rf (some a0)), some (.int p29)] []) (fun _ _ h => h.elim) (fun rec31 hrec31 p29 s30 hw => ?_) n124 _ _ hw
  refine z_iload_n hX dX18_turn_20 rfl (i := 1) rfl ?_
  refine z_aload_n hX dX18_turn_21 rfl (i := 0) rfl ?_
  obtain ⟨a33, f34, v32, r35, m36, e37, hw⟩ := hw
  refine z_get hX zc23 (k := 3) dX18_turn_22 (Nat.le_of_ble_eq_true rfl) (zlk hX q567) r35 m36 e37 ?_
  obtain ⟨a38, n39, r40, m41, hw⟩ := hw
  refine z_alen hX 1 dX18_turn_25 r40 m41 ?_
  revert hw
  generalize nI n39.1 = v42
  intro hw
  refine z_icmp_ge hX dX18_turn_26 (tgt := 48) rfl (fun c44 => ?_) (fun c44 => ?_)
  · have hw := hw.1 c44
    refine z_iconst hX (v := (0 : Int32)) dX18_turn_48 (by decide) ?_
    refine z_istore_n hX dX18_turn_49 rfl (i := 1) (Nat.le_of_ble_eq_true rfl) (zc_rf _) (ls2 := [some (va_rf (some a0)), some (.int (0 : Int32))]) rfl ?_
    obtain ⟨n92, hw⟩ := hw
    refine zIt_w (P := fun (j : Int32 → zS → Prop) => ∀ (p45 : Int32) (s46 : zS), j p45 s46 → zW X s46 50 [some (va_rf (some a0)), some (.int p45)] []) (fun _ _ h => h.elim) (fun rec47 hrec47 p45 s46 hw => ?_) n92 _ _ hw
    refine z_iload_n hX dX18_turn_50 rfl (i := 1) rfl ?_
    refine z_aload_n hX dX18_turn_51 rfl (i := 0) rfl ?_
    obtain ⟨a49, f50, v48, r51, m52, e53, hw⟩ := hw
    refine z_get hX zc23 (k := 4) dX18_turn_52 (Nat.le_of_ble_eq_true rfl) (zlk hX q569) r51 m52 e53 ?_
    obtain ⟨a54, n55, r56, m57, hw⟩ := hw
    refine z_alen hX 1 dX18_turn_55 r56 m57 ?_
    revert hw
    generalize nI n55.1 = v58
    intro hw
    refine z_icmp_ge hX dX18_turn_56 (tgt := 78) rfl (fun c60 => ?_) (fun c60 => ?_)
    · have hw := hw.1 c60
      exact z_return hX hR dX18_turn_78 hw
    · have hw := hw.2 c60
      refine z_aload_n hX dX18_turn_59 rfl (i := 0) rfl ?_
      obtain ⟨a62, f63, v61, r64, m65, e66, hw⟩ := hw
      refine z_get hX zc23 (k := 4) dX18_turn_60 (Nat.le_of_ble_eq_true rfl) (zlk hX q569) r64 m65 e66 ?_
      refine z_iload_n hX dX18_turn_63 rfl (i := 1) rfl ?_
      refine z_aload_n hX dX18_turn_64 rfl (i := 0) rfl ?_
      obtain ⟨a68, f69, v67, r70, m71, e72, hw⟩ := hw
      refine z_get hX zc23 (k := 4) dX18_turn_65 (Nat.le_of_ble_eq_true rfl) (zlk hX q569) r70 m71 e72 ?_
      refine z_iload_n hX dX18_turn_68 rfl (i := 1) rfl ?_
      obtain ⟨a73, n74, f75, r76, m77, i78, hw⟩ := hw
      refine z_lald hX dX18_turn_69 r76 m77 i78 ?_
      revert hw
      generalize f75 (Int32.toNatClampNeg p45) = v79
      intro hw
      refine z_lneg hX dX18_turn_70 ?_
      obtain ⟨a81, n82, f83, r84, g85, m86, i87, hw⟩ := hw
      refine z_last hX dX18_turn_71 r84 g85 m86 i87 (z_nm (fun s88 e89 => ?_))
      have hw := hw s88 e89
      obtain ⟨v90, e91⟩ : ∃ y : Int32, y = p45 + (1 : Int32) := ⟨_, rfl⟩
      refine z_iinc hX dX18_turn_72 (i := 1) (v := v90) rfl (by rw [e91]; rfl) (Nat.le_of_ble_eq_true rfl) (zc_rf _) (ls2 := [some (va_rf (some a0)), some (.int v90)]) rfl ?_
      have hw := hw v90 e91
      refine z_goto hX dX18_turn_75 (tgt := 50) rfl ?_
      exact hrec47 _ _ hw
  · have hw := hw.2 c44
    refine z_aload_n hX dX18_turn_29 rfl (i := 0) rfl ?_
    obtain ⟨a94, f95, v93, r96, m97, e98, hw⟩ := hw
    refine z_get hX zc23 (k := 3) dX18_turn_30 (Nat.le_of_ble_eq_true rfl) (zlk hX q567) r96 m97 e98 ?_
    refine z_iload_n hX dX18_turn_33 rfl (i := 1) rfl ?_
    refine z_aload_n hX dX18_turn_34 rfl (i := 0) rfl ?_
    obtain ⟨a100, f101, v99, r102, m103, e104, hw⟩ := hw
    refine z_get hX zc23 (k := 3) dX18_turn_35 (Nat.le_of_ble_eq_true rfl) (zlk hX q567) r102 m103 e104 ?_
    refine z_iload_n hX dX18_turn_38 rfl (i := 1) rfl ?_
    obtain ⟨a105, n106, f107, r108, m109, i110, hw⟩ := hw
    refine z_lald hX dX18_turn_39 r108 m109 i110 ?_
    revert hw
    generalize f107 (Int32.toNatClampNeg p29) = v111
    intro hw
    refine z_lneg hX dX18_turn_40 ?_
    obtain ⟨a113, n114, f115, r116, g117, m118, i119, hw⟩ := hw
    refine z_last hX dX18_turn_41 r116 g117 m118 i119 (z_nm (fun s120 e121 => ?_))
    have hw := hw s120 e121
    obtain ⟨v122, e123⟩ : ∃ y : Int32, y = p29 + (1 : Int32) := ⟨_, rfl⟩
    refine z_iinc hX dX18_turn_42 (i := 1) (v := v122) rfl (by rw [e123]; rfl) (Nat.le_of_ble_eq_true rfl) (zc_rf _) (ls2 := [some (va_rf (some a0)), some (.int v122)]) rfl ?_
    have hw := hw v122 e123
    refine z_goto hX dX18_turn_45 (tgt := 20) rfl ?_
    exact hrec31 _ _ hw
abbrev cX18_isGood : ByteArray := prog_10_method_6_code
def yX18_isGood : MethodName := ⟨RX18, "isGood", "()Z"⟩
def dkwX18_isGood_6 : List UInt8 := [132, 1, 1, 167, 255, 229, 4, 172]
abbrev dktX18_isGood_6 : List UInt8 := dkwX18_isGood_6 ++ []
def dkwX18_isGood_5 : List UInt8 := [180, 0, 25, 190, 162, 0, 24, 42, 27, 182, 0, 71, 42, 180, 0, 53, 148, 158, 0, 5, 3, 172]
abbrev dktX18_isGood_5 : List UInt8 := dkwX18_isGood_5 ++ dktX18_isGood_6
def dkwX18_isGood_4 : List UInt8 := [182, 0, 67, 42, 180, 0, 53, 148, 156, 0, 5, 3, 172, 132, 1, 1, 167, 255, 229, 3, 60, 27, 42]
abbrev dktX18_isGood_4 : List UInt8 := dkwX18_isGood_4 ++ dktX18_isGood_5
def dkwX18_isGood_3 : List UInt8 := [156, 0, 5, 3, 172, 132, 3, 1, 167, 255, 234, 3, 60, 27, 42, 180, 0, 32, 190, 162, 0, 24, 42, 27]
abbrev dktX18_isGood_3 : List UInt8 := dkwX18_isGood_3 ++ dktX18_isGood_4
def dkwX18_isGood_2 : List UInt8 := [180, 0, 32, 76, 43, 190, 61, 3, 62, 29, 28, 162, 0, 23, 43, 29, 47, 55, 4, 22, 4, 9, 148]
abbrev dktX18_isGood_2 : List UInt8 := dkwX18_isGood_2 ++ dktX18_isGood_3
def dkwX18_isGood_1 : List UInt8 := [162, 0, 23, 43, 29, 47, 55, 4, 22, 4, 9, 148, 156, 0, 5, 3, 172, 132, 3, 1, 167, 255, 234, 42]
abbrev dktX18_isGood_1 : List UInt8 := dkwX18_isGood_1 ++ dktX18_isGood_2
def dkwX18_isGood_0 : List UInt8 := [42, 180, 0, 57, 9, 148, 154, 0, 5, 3, 172, 42, 180, 0, 25, 76, 43, 190, 61, 3, 62, 29, 28]
abbrev dktX18_isGood_0 : List UInt8 := dkwX18_isGood_0 ++ dktX18_isGood_1
theorem dksX18_isGood_0 : cX18_isGood.data.toList.drop 0 = dktX18_isGood_0 := by decide +kernel
theorem dksX18_isGood_1 : cX18_isGood.data.toList.drop 23 = dktX18_isGood_1 := dk_seg dksX18_isGood_0 23 rfl rfl
theorem dksX18_isGood_2 : cX18_isGood.data.toList.drop 47 = dktX18_isGood_2 := dk_seg dksX18_isGood_1 24 rfl rfl
theorem dksX18_isGood_3 : cX18_isGood.data.toList.drop 70 = dktX18_isGood_3 := dk_seg dksX18_isGood_2 23 rfl rfl
theorem dksX18_isGood_4 : cX18_isGood.data.toList.drop 94 = dktX18_isGood_4 := dk_seg dksX18_isGood_3 24 rfl rfl
theorem dksX18_isGood_5 : cX18_isGood.data.toList.drop 117 = dktX18_isGood_5 := dk_seg dksX18_isGood_4 23 rfl rfl
theorem dksX18_isGood_6 : cX18_isGood.data.toList.drop 139 = dktX18_isGood_6 := dk_seg dksX18_isGood_5 22 rfl rfl
theorem dX18_isGood_0 : decode cX18_isGood 0 = .ok (.aload_n 0, 1) := dk_42 (dk_at dksX18_isGood_0 0 rfl rfl)
theorem dX18_isGood_1 : decode cX18_isGood 1 = .ok (.getfield 57, 3) := dk_180 0 57 (dk_at dksX18_isGood_0 1 rfl rfl)
theorem dX18_isGood_4 : decode cX18_isGood 4 = .ok (.lconst 0, 1) := dk_9 (dk_at dksX18_isGood_0 4 rfl rfl)
theorem dX18_isGood_5 : decode cX18_isGood 5 = .ok (.lcmp, 1) := dk_148 (dk_at dksX18_isGood_0 5 rfl rfl)
theorem dX18_isGood_6 : decode cX18_isGood 6 = .ok (.ifCond .ne 5, 3) := dk_154 0 5 (dk_at dksX18_isGood_0 6 rfl rfl)
theorem dX18_isGood_9 : decode cX18_isGood 9 = .ok (.iconst 0, 1) := dk_3 (dk_at dksX18_isGood_0 9 rfl rfl)
theorem dX18_isGood_10 : decode cX18_isGood 10 = .ok (.ireturn, 1) := dk_172 (dk_at dksX18_isGood_0 10 rfl rfl)
theorem dX18_isGood_11 : decode cX18_isGood 11 = .ok (.aload_n 0, 1) := dk_42 (dk_at dksX18_isGood_0 11 rfl rfl)
theorem dX18_isGood_12 : decode cX18_isGood 12 = .ok (.getfield 25, 3) := dk_180 0 25 (dk_at dksX18_isGood_0 12 rfl rfl)
theorem dX18_isGood_15 : decode cX18_isGood 15 = .ok (.astore_n 1, 1) := dk_76 (dk_at dksX18_isGood_0 15 rfl rfl)
theorem dX18_isGood_16 : decode cX18_isGood 16 = .ok (.aload_n 1, 1) := dk_43 (dk_at dksX18_isGood_0 16 rfl rfl)
theorem dX18_isGood_17 : decode cX18_isGood 17 = .ok (.arraylength, 1) := dk_190 (dk_at dksX18_isGood_0 17 rfl rfl)
theorem dX18_isGood_18 : decode cX18_isGood 18 = .ok (.istore_n 2, 1) := dk_61 (dk_at dksX18_isGood_0 18 rfl rfl)
theorem dX18_isGood_19 : decode cX18_isGood 19 = .ok (.iconst 0, 1) := dk_3 (dk_at dksX18_isGood_0 19 rfl rfl)
theorem dX18_isGood_20 : decode cX18_isGood 20 = .ok (.istore_n 3, 1) := dk_62 (dk_at dksX18_isGood_0 20 rfl rfl)
theorem dX18_isGood_21 : decode cX18_isGood 21 = .ok (.iload_n 3, 1) := dk_29 (dk_at dksX18_isGood_0 21 rfl rfl)
theorem dX18_isGood_22 : decode cX18_isGood 22 = .ok (.iload_n 2, 1) := dk_28 (dk_at dksX18_isGood_0 22 rfl rfl)
theorem dX18_isGood_23 : decode cX18_isGood 23 = .ok (.if_icmp .ge 23, 3) := dk_162 0 23 (dk_at dksX18_isGood_1 0 rfl rfl)
theorem dX18_isGood_26 : decode cX18_isGood 26 = .ok (.aload_n 1, 1) := dk_43 (dk_at dksX18_isGood_1 3 rfl rfl)
theorem dX18_isGood_27 : decode cX18_isGood 27 = .ok (.iload_n 3, 1) := dk_29 (dk_at dksX18_isGood_1 4 rfl rfl)
theorem dX18_isGood_28 : decode cX18_isGood 28 = .ok (.laload, 1) := dk_47 (dk_at dksX18_isGood_1 5 rfl rfl)
theorem dX18_isGood_29 : decode cX18_isGood 29 = .ok (.lstore 4, 2) := dk_55 4 (dk_at dksX18_isGood_1 6 rfl rfl)
theorem dX18_isGood_31 : decode cX18_isGood 31 = .ok (.lload 4, 2) := dk_22 4 (dk_at dksX18_isGood_1 8 rfl rfl)
theorem dX18_isGood_33 : decode cX18_isGood 33 = .ok (.lconst 0, 1) := dk_9 (dk_at dksX18_isGood_1 10 rfl rfl)
theorem dX18_isGood_34 : decode cX18_isGood 34 = .ok (.lcmp, 1) := dk_148 (dk_at dksX18_isGood_1 11 rfl rfl)
theorem dX18_isGood_35 : decode cX18_isGood 35 = .ok (.ifCond .ge 5, 3) := dk_156 0 5 (dk_at dksX18_isGood_1 12 rfl rfl)
theorem dX18_isGood_38 : decode cX18_isGood 38 = .ok (.iconst 0, 1) := dk_3 (dk_at dksX18_isGood_1 15 rfl rfl)
theorem dX18_isGood_39 : decode cX18_isGood 39 = .ok (.ireturn, 1) := dk_172 (dk_at dksX18_isGood_1 16 rfl rfl)
theorem dX18_isGood_40 : decode cX18_isGood 40 = .ok (.iinc 3 1, 3) := dk_132 3 1 (dk_at dksX18_isGood_1 17 rfl rfl)
theorem dX18_isGood_43 : decode cX18_isGood 43 = .ok (.goto (-22), 3) := dk_167 255 234 (dk_at dksX18_isGood_1 20 rfl rfl)
theorem dX18_isGood_46 : decode cX18_isGood 46 = .ok (.aload_n 0, 1) := dk_42 (dk_at dksX18_isGood_1 23 rfl rfl)
theorem dX18_isGood_47 : decode cX18_isGood 47 = .ok (.getfield 32, 3) := dk_180 0 32 (dk_at dksX18_isGood_2 0 rfl rfl)
theorem dX18_isGood_50 : decode cX18_isGood 50 = .ok (.astore_n 1, 1) := dk_76 (dk_at dksX18_isGood_2 3 rfl rfl)
theorem dX18_isGood_51 : decode cX18_isGood 51 = .ok (.aload_n 1, 1) := dk_43 (dk_at dksX18_isGood_2 4 rfl rfl)
theorem dX18_isGood_52 : decode cX18_isGood 52 = .ok (.arraylength, 1) := dk_190 (dk_at dksX18_isGood_2 5 rfl rfl)
theorem dX18_isGood_53 : decode cX18_isGood 53 = .ok (.istore_n 2, 1) := dk_61 (dk_at dksX18_isGood_2 6 rfl rfl)
theorem dX18_isGood_54 : decode cX18_isGood 54 = .ok (.iconst 0, 1) := dk_3 (dk_at dksX18_isGood_2 7 rfl rfl)
theorem dX18_isGood_55 : decode cX18_isGood 55 = .ok (.istore_n 3, 1) := dk_62 (dk_at dksX18_isGood_2 8 rfl rfl)
theorem dX18_isGood_56 : decode cX18_isGood 56 = .ok (.iload_n 3, 1) := dk_29 (dk_at dksX18_isGood_2 9 rfl rfl)
theorem dX18_isGood_57 : decode cX18_isGood 57 = .ok (.iload_n 2, 1) := dk_28 (dk_at dksX18_isGood_2 10 rfl rfl)
theorem dX18_isGood_58 : decode cX18_isGood 58 = .ok (.if_icmp .ge 23, 3) := dk_162 0 23 (dk_at dksX18_isGood_2 11 rfl rfl)
theorem dX18_isGood_61 : decode cX18_isGood 61 = .ok (.aload_n 1, 1) := dk_43 (dk_at dksX18_isGood_2 14 rfl rfl)
theorem dX18_isGood_62 : decode cX18_isGood 62 = .ok (.iload_n 3, 1) := dk_29 (dk_at dksX18_isGood_2 15 rfl rfl)
theorem dX18_isGood_63 : decode cX18_isGood 63 = .ok (.laload, 1) := dk_47 (dk_at dksX18_isGood_2 16 rfl rfl)
theorem dX18_isGood_64 : decode cX18_isGood 64 = .ok (.lstore 4, 2) := dk_55 4 (dk_at dksX18_isGood_2 17 rfl rfl)
theorem dX18_isGood_66 : decode cX18_isGood 66 = .ok (.lload 4, 2) := dk_22 4 (dk_at dksX18_isGood_2 19 rfl rfl)
theorem dX18_isGood_68 : decode cX18_isGood 68 = .ok (.lconst 0, 1) := dk_9 (dk_at dksX18_isGood_2 21 rfl rfl)
theorem dX18_isGood_69 : decode cX18_isGood 69 = .ok (.lcmp, 1) := dk_148 (dk_at dksX18_isGood_2 22 rfl rfl)
theorem dX18_isGood_70 : decode cX18_isGood 70 = .ok (.ifCond .ge 5, 3) := dk_156 0 5 (dk_at dksX18_isGood_3 0 rfl rfl)
theorem dX18_isGood_73 : decode cX18_isGood 73 = .ok (.iconst 0, 1) := dk_3 (dk_at dksX18_isGood_3 3 rfl rfl)
theorem dX18_isGood_74 : decode cX18_isGood 74 = .ok (.ireturn, 1) := dk_172 (dk_at dksX18_isGood_3 4 rfl rfl)
theorem dX18_isGood_75 : decode cX18_isGood 75 = .ok (.iinc 3 1, 3) := dk_132 3 1 (dk_at dksX18_isGood_3 5 rfl rfl)
theorem dX18_isGood_78 : decode cX18_isGood 78 = .ok (.goto (-22), 3) := dk_167 255 234 (dk_at dksX18_isGood_3 8 rfl rfl)
theorem dX18_isGood_81 : decode cX18_isGood 81 = .ok (.iconst 0, 1) := dk_3 (dk_at dksX18_isGood_3 11 rfl rfl)
theorem dX18_isGood_82 : decode cX18_isGood 82 = .ok (.istore_n 1, 1) := dk_60 (dk_at dksX18_isGood_3 12 rfl rfl)
theorem dX18_isGood_83 : decode cX18_isGood 83 = .ok (.iload_n 1, 1) := dk_27 (dk_at dksX18_isGood_3 13 rfl rfl)
theorem dX18_isGood_84 : decode cX18_isGood 84 = .ok (.aload_n 0, 1) := dk_42 (dk_at dksX18_isGood_3 14 rfl rfl)
theorem dX18_isGood_85 : decode cX18_isGood 85 = .ok (.getfield 32, 3) := dk_180 0 32 (dk_at dksX18_isGood_3 15 rfl rfl)
theorem dX18_isGood_88 : decode cX18_isGood 88 = .ok (.arraylength, 1) := dk_190 (dk_at dksX18_isGood_3 18 rfl rfl)
theorem dX18_isGood_89 : decode cX18_isGood 89 = .ok (.if_icmp .ge 24, 3) := dk_162 0 24 (dk_at dksX18_isGood_3 19 rfl rfl)
theorem dX18_isGood_92 : decode cX18_isGood 92 = .ok (.aload_n 0, 1) := dk_42 (dk_at dksX18_isGood_3 22 rfl rfl)
theorem dX18_isGood_93 : decode cX18_isGood 93 = .ok (.iload_n 1, 1) := dk_27 (dk_at dksX18_isGood_3 23 rfl rfl)
theorem dX18_isGood_94 : decode cX18_isGood 94 = .ok (.invokevirtual 67, 3) := dk_182 0 67 (dk_at dksX18_isGood_4 0 rfl rfl)
theorem dX18_isGood_97 : decode cX18_isGood 97 = .ok (.aload_n 0, 1) := dk_42 (dk_at dksX18_isGood_4 3 rfl rfl)
theorem dX18_isGood_98 : decode cX18_isGood 98 = .ok (.getfield 53, 3) := dk_180 0 53 (dk_at dksX18_isGood_4 4 rfl rfl)
theorem dX18_isGood_101 : decode cX18_isGood 101 = .ok (.lcmp, 1) := dk_148 (dk_at dksX18_isGood_4 7 rfl rfl)
theorem dX18_isGood_102 : decode cX18_isGood 102 = .ok (.ifCond .ge 5, 3) := dk_156 0 5 (dk_at dksX18_isGood_4 8 rfl rfl)
theorem dX18_isGood_105 : decode cX18_isGood 105 = .ok (.iconst 0, 1) := dk_3 (dk_at dksX18_isGood_4 11 rfl rfl)
theorem dX18_isGood_106 : decode cX18_isGood 106 = .ok (.ireturn, 1) := dk_172 (dk_at dksX18_isGood_4 12 rfl rfl)
theorem dX18_isGood_107 : decode cX18_isGood 107 = .ok (.iinc 1 1, 3) := dk_132 1 1 (dk_at dksX18_isGood_4 13 rfl rfl)
theorem dX18_isGood_110 : decode cX18_isGood 110 = .ok (.goto (-27), 3) := dk_167 255 229 (dk_at dksX18_isGood_4 16 rfl rfl)
theorem dX18_isGood_113 : decode cX18_isGood 113 = .ok (.iconst 0, 1) := dk_3 (dk_at dksX18_isGood_4 19 rfl rfl)
theorem dX18_isGood_114 : decode cX18_isGood 114 = .ok (.istore_n 1, 1) := dk_60 (dk_at dksX18_isGood_4 20 rfl rfl)
theorem dX18_isGood_115 : decode cX18_isGood 115 = .ok (.iload_n 1, 1) := dk_27 (dk_at dksX18_isGood_4 21 rfl rfl)
theorem dX18_isGood_116 : decode cX18_isGood 116 = .ok (.aload_n 0, 1) := dk_42 (dk_at dksX18_isGood_4 22 rfl rfl)
theorem dX18_isGood_117 : decode cX18_isGood 117 = .ok (.getfield 25, 3) := dk_180 0 25 (dk_at dksX18_isGood_5 0 rfl rfl)
theorem dX18_isGood_120 : decode cX18_isGood 120 = .ok (.arraylength, 1) := dk_190 (dk_at dksX18_isGood_5 3 rfl rfl)
theorem dX18_isGood_121 : decode cX18_isGood 121 = .ok (.if_icmp .ge 24, 3) := dk_162 0 24 (dk_at dksX18_isGood_5 4 rfl rfl)
theorem dX18_isGood_124 : decode cX18_isGood 124 = .ok (.aload_n 0, 1) := dk_42 (dk_at dksX18_isGood_5 7 rfl rfl)
theorem dX18_isGood_125 : decode cX18_isGood 125 = .ok (.iload_n 1, 1) := dk_27 (dk_at dksX18_isGood_5 8 rfl rfl)
theorem dX18_isGood_126 : decode cX18_isGood 126 = .ok (.invokevirtual 71, 3) := dk_182 0 71 (dk_at dksX18_isGood_5 9 rfl rfl)
theorem dX18_isGood_129 : decode cX18_isGood 129 = .ok (.aload_n 0, 1) := dk_42 (dk_at dksX18_isGood_5 12 rfl rfl)
theorem dX18_isGood_130 : decode cX18_isGood 130 = .ok (.getfield 53, 3) := dk_180 0 53 (dk_at dksX18_isGood_5 13 rfl rfl)
theorem dX18_isGood_133 : decode cX18_isGood 133 = .ok (.lcmp, 1) := dk_148 (dk_at dksX18_isGood_5 16 rfl rfl)
theorem dX18_isGood_134 : decode cX18_isGood 134 = .ok (.ifCond .le 5, 3) := dk_158 0 5 (dk_at dksX18_isGood_5 17 rfl rfl)
theorem dX18_isGood_137 : decode cX18_isGood 137 = .ok (.iconst 0, 1) := dk_3 (dk_at dksX18_isGood_5 20 rfl rfl)
theorem dX18_isGood_138 : decode cX18_isGood 138 = .ok (.ireturn, 1) := dk_172 (dk_at dksX18_isGood_5 21 rfl rfl)
theorem dX18_isGood_139 : decode cX18_isGood 139 = .ok (.iinc 1 1, 3) := dk_132 1 1 (dk_at dksX18_isGood_6 0 rfl rfl)
theorem dX18_isGood_142 : decode cX18_isGood 142 = .ok (.goto (-27), 3) := dk_167 255 229 (dk_at dksX18_isGood_6 3 rfl rfl)
theorem dX18_isGood_145 : decode cX18_isGood 145 = .ok (.iconst 1, 1) := dk_4 (dk_at dksX18_isGood_6 6 rfl rfl)
theorem dX18_isGood_146 : decode cX18_isGood 146 = .ok (.ireturn, 1) := dk_172 (dk_at dksX18_isGood_6 7 rfl rfl)
/-- PackingDuel$Kernel.isGood()Z -/
def zb500 (G : zPg) (C : zO) (args : List Value) (Q : zQ) (Y : zY) (σ : zS) : Prop := ∃ (a0 : Nat), args = [.ref a0] ∧ (zgL σ (some a0) 23 5 (fun v1 => ((¬ (lg_cmp v1 (0 : Int64)) = 0) → zgR σ (some a0) 23 3 (fun v8 => zln σ 1 v8 (fun v18 => ∃ n, zIt (fun _ _ => False) (fun rec22 (p20 : Int32) (s21 : zS) => ((v18 ≤ p20) → zgR s21 (some a0) 23 4 (fun v24 => zln s21 1 v24 (fun v34 => ∃ n, zIt (fun _ _ => False) (fun rec38 (p36 : Int32) (s37 : zS) => ((v34 ≤ p36) → ∃ n, zIt (fun _ _ => False) (fun rec42 (p40 : Int32) (s41 : zS) => zgR s41 (some a0) 23 4 (fun v43 => zln s41 1 v43 (fun v53 => ((v53 ≤ p40) → ∃ n, zIt (fun _ _ => False) (fun rec58 (p56 : Int32) (s57 : zS) => zgR s57 (some a0) 23 3 (fun v59 => zln s57 1 v59 (fun v69 => ((v69 ≤ p56) → zbool (1 : Int32) ∧ Q (some (.int (1 : Int32))) s57) ∧ ((¬ v69 ≤ p56) → zrc s57 (some a0) 23 (fun a75 => zcl C 502 [.ref a75, .int p56] Y s57 (zqL (fun v72 s73 => zgL s73 (some a0) 23 6 (fun v79 => (((lg_cmp v72 v79) ≤ 0) → (∀ v86 : Int32, v86 = p56 + (1 : Int32) → rec58 v86 s73)) ∧ ((¬ (lg_cmp v72 v79) ≤ 0) → zbool (0 : Int32) ∧ Q (some (.int (0 : Int32))) s73))))))))) n (0 : Int32) s41) ∧ ((¬ v53 ≤ p40) → zrc s41 (some a0) 23 (fun a92 => zcl C 501 [.ref a92, .int p40] Y s41 (zqL (fun v89 s90 => zgL s90 (some a0) 23 6 (fun v96 => ((0 ≤ (lg_cmp v89 v96)) → (∀ v103 : Int32, v103 = p40 + (1 : Int32) → rec42 v103 s90)) ∧ ((¬ 0 ≤ (lg_cmp v89 v96)) → zbool (0 : Int32) ∧ Q (some (.int (0 : Int32))) s90))))))))) n (0 : Int32) s37) ∧ ((¬ v34 ≤ p36) → zaL s37 v24 p36 (fun v112 => ((0 ≤ (lg_cmp v112 (0 : Int64))) → (∀ v115 : Int32, v115 = p36 + (1 : Int32) → rec38 v115 s37)) ∧ ((¬ 0 ≤ (lg_cmp v112 (0 : Int64))) → zbool (0 : Int32) ∧ Q (some (.int (0 : Int32))) s37)))) n (0 : Int32) s21))) ∧ ((¬ v18 ≤ p20) → zaL s21 v8 p20 (fun v124 => ((0 ≤ (lg_cmp v124 (0 : Int64))) → (∀ v127 : Int32, v127 = p20 + (1 : Int32) → rec22 v127 s21)) ∧ ((¬ 0 ≤ (lg_cmp v124 (0 : Int64))) → zbool (0 : Int32) ∧ Q (some (.int (0 : Int32))) s21)))) n (0 : Int32) σ))) ∧ (((lg_cmp v1 (0 : Int64)) = 0) → zbool (0 : Int32) ∧ Q (some (.int (0 : Int32))) σ)))
set_option maxHeartbeats 4000000 in
theorem wk500 {l : Launch} {g : zG} {d : Nat} {C : zO} (hG : zGk g) (hC : zSound l g d C) {args : List Value} {Q : zQ} {Y : zY} {σ : zS} (hw : zb500 (zpg g) C args Q Y σ) : zMet l g (d + 1) (⟨"PackingDuel$Kernel", "isGood", "()Z"⟩, Cond.code ⟨"PackingDuel$Kernel", "isGood", "()Z"⟩ prog_10_method_6_code 6 (Option.some FieldType.boolean)) args σ Q Y := by
  obtain ⟨a0, rfl, hw⟩ := hw
  refine zof hG (by decide +kernel) [false] ⟨rfl, trivial⟩ (Nat.le_of_ble_eq_true rfl) (ls := [some (va_rf (some a0)), none, none, none, none, none]) rfl ?_
  intro X hX hR hTb hd1 hd2 hl hg hnm
  subst hl
  subst hg
  have hd : zDep X d := ⟨hd1, hd2⟩
  refine z_aload_n hX dX18_isGood_0 rfl (i := 0) rfl ?_
  obtain ⟨a2, f3, v1, r4, m5, e6, hw⟩ := hw
  refine z_get hX zc23 (k := 5) dX18_isGood_1 (Nat.le_of_ble_eq_true rfl) (zlk hX q571) r4 m5 e6 ?_
  refine z_lconst hX (v := (0 : Int64)) dX18_isGood_4 (by decide) ?_
  refine z_lcmp hX dX18_isGood_5 ?_
  refine z_if_ne hX dX18_isGood_6 (tgt := 11) rfl (fun c7 => ?_) (fun c7 => ?_)
  · have hw := hw.1 c7
    refine z_aload_n hX dX18_isGood_11 rfl (i := 0) rfl ?_
    obtain ⟨a9, f10, v8, r11, m12, e13, hw⟩ := hw
    refine z_get hX zc23 (k := 3) dX18_isGood_12 (Nat.le_of_ble_eq_true rfl) (zlk hX q567) r11 m12 e13 ?_
    refine z_astore_n hX dX18_isGood_15 rfl (i := 1) (Nat.le_of_ble_eq_true rfl) (zc_rf _) (ls2 := [some (va_rf (some a0)), some (va_rf v8), none, none, none, none]) rfl ?_
    refine z_aload_n hX dX18_isGood_16 rfl (i := 1) rfl ?_
    obtain ⟨a14, n15, r16, m17, hw⟩ := hw
    refine z_alen hX 1 dX18_isGood_17 r16 m17 ?_
    revert hw
    generalize nI n15.1 = v18
    intro hw
    refine z_istore_n hX dX18_isGood_18 rfl (i := 2) (Nat.le_of_ble_eq_true rfl) (zc_rf _) (ls2 := [some (va_rf (some a0)), some (va_rf v8), some (.int v18), none, none, none]) rfl ?_
    refine z_iconst hX (v := (0 : Int32)) dX18_isGood_19 (by decide) ?_
    refine z_istore_n hX dX18_isGood_20 rfl (i := 3) (Nat.le_of_ble_eq_true rfl) rfl (ls2 := [some (va_rf (some a0)), some (va_rf v8), some (.int v18), some (.int (0 : Int32)), none, none]) rfl ?_
    obtain ⟨n129, hw⟩ := hw
    refine zIt_w (P := fun (j : Int32 → zS → Prop) => ∀ (p20 : Int32) (s21 : zS), j p20 s21 → zW X s21 21 [some (va_rf (some a0)), some (va_rf v8), some (.int v18), some (.int p20), none, none] []) (fun _ _ h => h.elim) (fun rec22 hrec22 p20 s21 hw => ?_) n129 _ _ hw
    refine z_iload_n hX dX18_isGood_21 rfl (i := 3) rfl ?_
    refine z_iload_n hX dX18_isGood_22 rfl (i := 2) rfl ?_
    refine z_icmp_ge hX dX18_isGood_23 (tgt := 46) rfl (fun c23 => ?_) (fun c23 => ?_)
    · have hw := hw.1 c23
      refine z_aload_n hX dX18_isGood_46 rfl (i := 0) rfl ?_
      obtain ⟨a25, f26, v24, r27, m28, e29, hw⟩ := hw
      refine z_get hX zc23 (k := 4) dX18_isGood_47 (Nat.le_of_ble_eq_true rfl) (zlk hX q569) r27 m28 e29 ?_
      refine z_astore_n hX dX18_isGood_50 rfl (i := 1) (Nat.le_of_ble_eq_true rfl) (zc_rf _) (ls2 := [some (va_rf (some a0)), some (va_rf v24), some (.int v18), some (.int p20), none, none]) rfl ?_
      refine z_aload_n hX dX18_isGood_51 rfl (i := 1) rfl ?_
      obtain ⟨a30, n31, r32, m33, hw⟩ := hw
      refine z_alen hX 1 dX18_isGood_52 r32 m33 ?_
      revert hw
      generalize nI n31.1 = v34
      intro hw
      refine z_istore_n hX dX18_isGood_53 rfl (i := 2) (Nat.le_of_ble_eq_true rfl) (zc_rf _) (ls2 := [some (va_rf (some a0)), some (va_rf v24), some (.int v34), some (.int p20), none, none]) rfl ?_
      refine z_iconst hX (v := (0 : Int32)) dX18_isGood_54 (by decide) ?_
      refine z_istore_n hX dX18_isGood_55 rfl (i := 3) (Nat.le_of_ble_eq_true rfl) rfl (ls2 := [some (va_rf (some a0)), some (va_rf v24), some (.int v34), some (.int (0 : Int32)), none, none]) rfl ?_
      obtain ⟨n117, hw⟩ := hw
      refine zIt_w (P := fun (j : Int32 → zS → Prop) => ∀ (p36 : Int32) (s37 : zS), j p36 s37 → zW X s37 56 [some (va_rf (some a0)), some (va_rf v24), some (.int v34), some (.int p36), none, none] []) (fun _ _ h => h.elim) (fun rec38 hrec38 p36 s37 hw => ?_) n117 _ _ hw
      refine z_iload_n hX dX18_isGood_56 rfl (i := 3) rfl ?_
      refine z_iload_n hX dX18_isGood_57 rfl (i := 2) rfl ?_
      refine z_icmp_ge hX dX18_isGood_58 (tgt := 81) rfl (fun c39 => ?_) (fun c39 => ?_)
      · have hw := hw.1 c39
        refine z_iconst hX (v := (0 : Int32)) dX18_isGood_81 (by decide) ?_
        refine z_istore_n hX dX18_isGood_82 rfl (i := 1) (Nat.le_of_ble_eq_true rfl) (zc_rf _) (ls2 := [some (va_rf (some a0)), some (.int (0 : Int32)), some (.int v34), some (.int p36), none, none]) rfl ?_
        obtain ⟨n105, hw⟩ := hw
        refine z_sub (ls' := [some (va_rf (some a0)), some (.int (0 : Int32)), none, none, none, none]) (zsS (zsS (zsN (zsN (zsN (zsN (zs0))))))) ?_
        refine zIt_w (P := fun (j : Int32 → zS → Prop) => ∀ (p40 : Int32) (s41 : zS), j p40 s41 → zW X s41 83 [some (va_rf (some a0)), some (.int p40), none, none, none, none] []) (fun _ _ h => h.elim) (fun rec42 hrec42 p40 s41 hw => ?_) n105 _ _ hw
        refine z_iload_n hX dX18_isGood_83 rfl (i := 1) rfl ?_
        refine z_aload_n hX dX18_isGood_84 rfl (i := 0) rfl ?_
        obtain ⟨a44, f45, v43, r46, m47, e48, hw⟩ := hw
        refine z_get hX zc23 (k := 4) dX18_isGood_85 (Nat.le_of_ble_eq_true rfl) (zlk hX q569) r46 m47 e48 ?_
        obtain ⟨a49, n50, r51, m52, hw⟩ := hw
        refine z_alen hX 1 dX18_isGood_88 r51 m52 ?_
        revert hw
        generalize nI n50.1 = v53
        intro hw
        refine z_icmp_ge hX dX18_isGood_89 (tgt := 113) rfl (fun c55 => ?_) (fun c55 => ?_)
        · have hw := hw.1 c55
          refine z_iconst hX (v := (0 : Int32)) dX18_isGood_113 (by decide) ?_
          refine z_istore_n hX dX18_isGood_114 rfl (i := 1) (Nat.le_of_ble_eq_true rfl) (zc_rf _) (ls2 := [some (va_rf (some a0)), some (.int (0 : Int32)), none, none, none, none]) rfl ?_
          obtain ⟨n88, hw⟩ := hw
          refine zIt_w (P := fun (j : Int32 → zS → Prop) => ∀ (p56 : Int32) (s57 : zS), j p56 s57 → zW X s57 115 [some (va_rf (some a0)), some (.int p56), none, none, none, none] []) (fun _ _ h => h.elim) (fun rec58 hrec58 p56 s57 hw => ?_) n88 _ _ hw
          refine z_iload_n hX dX18_isGood_115 rfl (i := 1) rfl ?_
          refine z_aload_n hX dX18_isGood_116 rfl (i := 0) rfl ?_
          obtain ⟨a60, f61, v59, r62, m63, e64, hw⟩ := hw
          refine z_get hX zc23 (k := 3) dX18_isGood_117 (Nat.le_of_ble_eq_true rfl) (zlk hX q567) r62 m63 e64 ?_
          obtain ⟨a65, n66, r67, m68, hw⟩ := hw
          refine z_alen hX 1 dX18_isGood_120 r67 m68 ?_
          revert hw
          generalize nI n66.1 = v69
          intro hw
          refine z_icmp_ge hX dX18_isGood_121 (tgt := 145) rfl (fun c71 => ?_) (fun c71 => ?_)
          · have hw := hw.1 c71
            refine z_iconst hX (v := (1 : Int32)) dX18_isGood_145 (by decide) ?_
            exact z_ireturn hX hR dX18_isGood_146 (zn_z hw.1) hw.2
          · have hw := hw.2 c71
            refine z_aload_n hX dX18_isGood_124 rfl (i := 0) rfl ?_
            refine z_iload_n hX dX18_isGood_125 rfl (i := 1) rfl ?_
            obtain ⟨a75, f76, r77, m78, hw⟩ := hw
            refine z_invV hX hd r77 (ci := 23) rfl rfl m78 dX18_isGood_126 (hC 502 _ zm502 _ _ _ _ hw) q599 q601 qs8 zh44 q602 q177 zn502 rfl (Nat.le_of_ble_eq_true rfl) (st := []) rfl (zcs8 (Nat.le_of_ble_eq_true rfl)) rfl (zkL (fun v72 s73 hw => ?_)) (zout hX hR hTb)
            refine z_aload_n hX dX18_isGood_129 rfl (i := 0) rfl ?_
            obtain ⟨a80, f81, v79, r82, m83, e84, hw⟩ := hw
            refine z_get hX zc23 (k := 6) dX18_isGood_130 (Nat.le_of_ble_eq_true rfl) (zlk hX q573) r82 m83 e84 ?_
            refine z_lcmp hX dX18_isGood_133 ?_
            refine z_if_le hX dX18_isGood_134 (tgt := 139) rfl (fun c85 => ?_) (fun c85 => ?_)
            · have hw := hw.1 c85
              obtain ⟨v86, e87⟩ : ∃ y : Int32, y = p56 + (1 : Int32) := ⟨_, rfl⟩
              refine z_iinc hX dX18_isGood_139 (i := 1) (v := v86) rfl (by rw [e87]; rfl) (Nat.le_of_ble_eq_true rfl) (zc_rf _) (ls2 := [some (va_rf (some a0)), some (.int v86), none, none, none, none]) rfl ?_
              have hw := hw v86 e87
              refine z_goto hX dX18_isGood_142 (tgt := 115) rfl ?_
              exact hrec58 _ _ hw
            · have hw := hw.2 c85
              refine z_iconst hX (v := (0 : Int32)) dX18_isGood_137 (by decide) ?_
              exact z_ireturn hX hR dX18_isGood_138 (zn_z hw.1) hw.2
        · have hw := hw.2 c55
          refine z_aload_n hX dX18_isGood_92 rfl (i := 0) rfl ?_
          refine z_iload_n hX dX18_isGood_93 rfl (i := 1) rfl ?_
          obtain ⟨a92, f93, r94, m95, hw⟩ := hw
          refine z_invV hX hd r94 (ci := 23) rfl rfl m95 dX18_isGood_94 (hC 501 _ zm501 _ _ _ _ hw) q595 q597 qs7 zh44 q598 q177 zn501 rfl (Nat.le_of_ble_eq_true rfl) (st := []) rfl (zcs8 (Nat.le_of_ble_eq_true rfl)) rfl (zkL (fun v89 s90 hw => ?_)) (zout hX hR hTb)
          refine z_aload_n hX dX18_isGood_97 rfl (i := 0) rfl ?_
          obtain ⟨a97, f98, v96, r99, m100, e101, hw⟩ := hw
          refine z_get hX zc23 (k := 6) dX18_isGood_98 (Nat.le_of_ble_eq_true rfl) (zlk hX q573) r99 m100 e101 ?_
          refine z_lcmp hX dX18_isGood_101 ?_
          refine z_if_ge hX dX18_isGood_102 (tgt := 107) rfl (fun c102 => ?_) (fun c102 => ?_)
          · have hw := hw.1 c102
            obtain ⟨v103, e104⟩ : ∃ y : Int32, y = p40 + (1 : Int32) := ⟨_, rfl⟩
            refine z_iinc hX dX18_isGood_107 (i := 1) (v := v103) rfl (by rw [e104]; rfl) (Nat.le_of_ble_eq_true rfl) (zc_rf _) (ls2 := [some (va_rf (some a0)), some (.int v103), none, none, none, none]) rfl ?_
            have hw := hw v103 e104
            refine z_goto hX dX18_isGood_110 (tgt := 83) rfl ?_
            exact hrec42 _ _ hw
          · have hw := hw.2 c102
            refine z_iconst hX (v := (0 : Int32)) dX18_isGood_105 (by decide) ?_
            exact z_ireturn hX hR dX18_isGood_106 (zn_z hw.1) hw.2
      · have hw := hw.2 c39
        refine z_aload_n hX dX18_isGood_61 rfl (i := 1) rfl ?_
        refine z_iload_n hX dX18_isGood_62 rfl (i := 3) rfl ?_
        obtain ⟨a106, n107, f108, r109, m110, i111, hw⟩ := hw
        refine z_lald hX dX18_isGood_63 r109 m110 i111 ?_
        revert hw
        generalize f108 (Int32.toNatClampNeg p36) = v112
        intro hw
        refine z_lstore hX dX18_isGood_64 (i := 4) (Nat.le_of_ble_eq_true rfl) rfl (ls2 := [some (va_rf (some a0)), some (va_rf v24), some (.int v34), some (.int p36), some (.long v112), none]) rfl ?_
        refine z_lload hX dX18_isGood_66 (i := 4) rfl ?_
        refine z_lconst hX (v := (0 : Int64)) dX18_isGood_68 (by decide) ?_
        refine z_lcmp hX dX18_isGood_69 ?_
        refine z_if_ge hX dX18_isGood_70 (tgt := 75) rfl (fun c114 => ?_) (fun c114 => ?_)
        · have hw := hw.1 c114
          obtain ⟨v115, e116⟩ : ∃ y : Int32, y = p36 + (1 : Int32) := ⟨_, rfl⟩
          refine z_iinc hX dX18_isGood_75 (i := 3) (v := v115) rfl (by rw [e116]; rfl) (Nat.le_of_ble_eq_true rfl) rfl (ls2 := [some (va_rf (some a0)), some (va_rf v24), some (.int v34), some (.int v115), some (.long v112), none]) rfl ?_
          have hw := hw v115 e116
          refine z_goto hX dX18_isGood_78 (tgt := 56) rfl ?_
          refine z_sub (ls' := [some (va_rf (some a0)), some (va_rf v24), some (.int v34), some (.int v115), none, none]) (zsS (zsS (zsS (zsS (zsN (zsN (zs0))))))) ?_
          exact hrec38 _ _ hw
        · have hw := hw.2 c114
          refine z_iconst hX (v := (0 : Int32)) dX18_isGood_73 (by decide) ?_
          exact z_ireturn hX hR dX18_isGood_74 (zn_z hw.1) hw.2
    · have hw := hw.2 c23
      refine z_aload_n hX dX18_isGood_26 rfl (i := 1) rfl ?_
      refine z_iload_n hX dX18_isGood_27 rfl (i := 3) rfl ?_
      obtain ⟨a118, n119, f120, r121, m122, i123, hw⟩ := hw
      refine z_lald hX dX18_isGood_28 r121 m122 i123 ?_
      revert hw
      generalize f120 (Int32.toNatClampNeg p20) = v124
      intro hw
      refine z_lstore hX dX18_isGood_29 (i := 4) (Nat.le_of_ble_eq_true rfl) rfl (ls2 := [some (va_rf (some a0)), some (va_rf v8), some (.int v18), some (.int p20), some (.long v124), none]) rfl ?_
      refine z_lload hX dX18_isGood_31 (i := 4) rfl ?_
      refine z_lconst hX (v := (0 : Int64)) dX18_isGood_33 (by decide) ?_
      refine z_lcmp hX dX18_isGood_34 ?_
      refine z_if_ge hX dX18_isGood_35 (tgt := 40) rfl (fun c126 => ?_) (fun c126 => ?_)
      · have hw := hw.1 c126
        obtain ⟨v127, e128⟩ : ∃ y : Int32, y = p20 + (1 : Int32) := ⟨_, rfl⟩
        refine z_iinc hX dX18_isGood_40 (i := 3) (v := v127) rfl (by rw [e128]; rfl) (Nat.le_of_ble_eq_true rfl) rfl (ls2 := [some (va_rf (some a0)), some (va_rf v8), some (.int v18), some (.int v127), some (.long v124), none]) rfl ?_
        have hw := hw v127 e128
        refine z_goto hX dX18_isGood_43 (tgt := 21) rfl ?_
        refine z_sub (ls' := [some (va_rf (some a0)), some (va_rf v8), some (.int v18), some (.int v127), none, none]) (zsS (zsS (zsS (zsS (zsN (zsN (zs0))))))) ?_
        exact hrec22 _ _ hw
      · have hw := hw.2 c126
        refine z_iconst hX (v := (0 : Int32)) dX18_isGood_38 (by decide) ?_
        exact z_ireturn hX hR dX18_isGood_39 (zn_z hw.1) hw.2
  · have hw := hw.2 c7
    refine z_iconst hX (v := (0 : Int32)) dX18_isGood_9 (by decide) ?_
    exact z_ireturn hX hR dX18_isGood_10 (zn_z hw.1) hw.2
abbrev cX18_against : ByteArray := prog_10_method_4_code
def yX18_against : MethodName := ⟨RX18, "against", "(I)J"⟩
def dkwX18_against_1 : List UInt8 := [180, 0, 7, 180, 0, 63, 21, 4, 50, 27, 46, 133, 105, 97, 65, 132, 4, 1, 167, 255, 219, 32, 173]
abbrev dktX18_against_1 : List UInt8 := dkwX18_against_1 ++ []
def dkwX18_against_0 : List UInt8 := [9, 65, 3, 54, 4, 21, 4, 42, 180, 0, 25, 190, 162, 0, 33, 32, 42, 180, 0, 25, 21, 4, 47, 42]
abbrev dktX18_against_0 : List UInt8 := dkwX18_against_0 ++ dktX18_against_1
theorem dksX18_against_0 : cX18_against.data.toList.drop 0 = dktX18_against_0 := by decide +kernel
theorem dksX18_against_1 : cX18_against.data.toList.drop 24 = dktX18_against_1 := dk_seg dksX18_against_0 24 rfl rfl
theorem dX18_against_0 : decode cX18_against 0 = .ok (.lconst 0, 1) := dk_9 (dk_at dksX18_against_0 0 rfl rfl)
theorem dX18_against_1 : decode cX18_against 1 = .ok (.lstore_n 2, 1) := dk_65 (dk_at dksX18_against_0 1 rfl rfl)
theorem dX18_against_2 : decode cX18_against 2 = .ok (.iconst 0, 1) := dk_3 (dk_at dksX18_against_0 2 rfl rfl)
theorem dX18_against_3 : decode cX18_against 3 = .ok (.istore 4, 2) := dk_54 4 (dk_at dksX18_against_0 3 rfl rfl)
theorem dX18_against_5 : decode cX18_against 5 = .ok (.iload 4, 2) := dk_21 4 (dk_at dksX18_against_0 5 rfl rfl)
theorem dX18_against_7 : decode cX18_against 7 = .ok (.aload_n 0, 1) := dk_42 (dk_at dksX18_against_0 7 rfl rfl)
theorem dX18_against_8 : decode cX18_against 8 = .ok (.getfield 25, 3) := dk_180 0 25 (dk_at dksX18_against_0 8 rfl rfl)
theorem dX18_against_11 : decode cX18_against 11 = .ok (.arraylength, 1) := dk_190 (dk_at dksX18_against_0 11 rfl rfl)
theorem dX18_against_12 : decode cX18_against 12 = .ok (.if_icmp .ge 33, 3) := dk_162 0 33 (dk_at dksX18_against_0 12 rfl rfl)
theorem dX18_against_15 : decode cX18_against 15 = .ok (.lload_n 2, 1) := dk_32 (dk_at dksX18_against_0 15 rfl rfl)
theorem dX18_against_16 : decode cX18_against 16 = .ok (.aload_n 0, 1) := dk_42 (dk_at dksX18_against_0 16 rfl rfl)
theorem dX18_against_17 : decode cX18_against 17 = .ok (.getfield 25, 3) := dk_180 0 25 (dk_at dksX18_against_0 17 rfl rfl)
theorem dX18_against_20 : decode cX18_against 20 = .ok (.iload 4, 2) := dk_21 4 (dk_at dksX18_against_0 20 rfl rfl)
theorem dX18_against_22 : decode cX18_against 22 = .ok (.laload, 1) := dk_47 (dk_at dksX18_against_0 22 rfl rfl)
theorem dX18_against_23 : decode cX18_against 23 = .ok (.aload_n 0, 1) := dk_42 (dk_at dksX18_against_0 23 rfl rfl)
theorem dX18_against_24 : decode cX18_against 24 = .ok (.getfield 7, 3) := dk_180 0 7 (dk_at dksX18_against_1 0 rfl rfl)
theorem dX18_against_27 : decode cX18_against 27 = .ok (.getfield 63, 3) := dk_180 0 63 (dk_at dksX18_against_1 3 rfl rfl)
theorem dX18_against_30 : decode cX18_against 30 = .ok (.iload 4, 2) := dk_21 4 (dk_at dksX18_against_1 6 rfl rfl)
theorem dX18_against_32 : decode cX18_against 32 = .ok (.aaload, 1) := dk_50 (dk_at dksX18_against_1 8 rfl rfl)
theorem dX18_against_33 : decode cX18_against 33 = .ok (.iload_n 1, 1) := dk_27 (dk_at dksX18_against_1 9 rfl rfl)
theorem dX18_against_34 : decode cX18_against 34 = .ok (.iaload, 1) := dk_46 (dk_at dksX18_against_1 10 rfl rfl)
theorem dX18_against_35 : decode cX18_against 35 = .ok (.i2l, 1) := dk_133 (dk_at dksX18_against_1 11 rfl rfl)
theorem dX18_against_36 : decode cX18_against 36 = .ok (.lmul, 1) := dk_105 (dk_at dksX18_against_1 12 rfl rfl)
theorem dX18_against_37 : decode cX18_against 37 = .ok (.ladd, 1) := dk_97 (dk_at dksX18_against_1 13 rfl rfl)
theorem dX18_against_38 : decode cX18_against 38 = .ok (.lstore_n 2, 1) := dk_65 (dk_at dksX18_against_1 14 rfl rfl)
theorem dX18_against_39 : decode cX18_against 39 = .ok (.iinc 4 1, 3) := dk_132 4 1 (dk_at dksX18_against_1 15 rfl rfl)
theorem dX18_against_42 : decode cX18_against 42 = .ok (.goto (-37), 3) := dk_167 255 219 (dk_at dksX18_against_1 18 rfl rfl)
theorem dX18_against_45 : decode cX18_against 45 = .ok (.lload_n 2, 1) := dk_32 (dk_at dksX18_against_1 21 rfl rfl)
theorem dX18_against_46 : decode cX18_against 46 = .ok (.lreturn, 1) := dk_173 (dk_at dksX18_against_1 22 rfl rfl)
/-- PackingDuel$Kernel.against(I)J -/
def zb501 (G : zPg) (C : zO) (args : List Value) (Q : zQ) (Y : zY) (σ : zS) : Prop := ∃ (a0 : Nat) (x1 : Int32), args = [.ref a0, .int x1] ∧ (∃ n, zIt (fun _ _ _ => False) (fun rec4 (p1 : Int64) (p2 : Int32) (s3 : zS) => zgR s3 (some a0) 23 3 (fun v5 => zln s3 1 v5 (fun v15 => ((v15 ≤ p2) → Q (some (.long p1)) s3) ∧ ((¬ v15 ≤ p2) → zgR s3 (some a0) 23 3 (fun v18 => zaL s3 v18 p2 (fun v30 => zgR s3 (some a0) 23 0 (fun v32 => zgR s3 v32 22 2 (fun v38 => zaR s3 5 v38 p2 (fun v50 => zaI s3 0 v50 x1 (fun v58 => (∀ v60 : Int32, v60 = p2 + (1 : Int32) → rec4 (p1 + (v30 * v58.toInt64)) v60 s3))))))))))) n (0 : Int64) (0 : Int32) σ)
set_option maxHeartbeats 4000000 in
theorem wk501 {l : Launch} {g : zG} {d : Nat} {C : zO} (hG : zGk g) (hC : zSound l g d C) {args : List Value} {Q : zQ} {Y : zY} {σ : zS} (hw : zb501 (zpg g) C args Q Y σ) : zMet l g (d + 1) (⟨"PackingDuel$Kernel", "against", "(I)J"⟩, Cond.code ⟨"PackingDuel$Kernel", "against", "(I)J"⟩ prog_10_method_4_code 5 (Option.some FieldType.long)) args σ Q Y := by
  obtain ⟨a0, x1, rfl, hw⟩ := hw
  refine zof hG (by decide +kernel) [false, false] ⟨rfl, rfl, trivial⟩ (Nat.le_of_ble_eq_true rfl) (ls := [some (va_rf (some a0)), some (.int x1), none, none, none]) rfl ?_
  intro X hX hR hTb hd1 hd2 hl hg hnm
  subst hl
  subst hg
  have hd : zDep X d := ⟨hd1, hd2⟩
  refine z_lconst hX (v := (0 : Int64)) dX18_against_0 (by decide) ?_
  refine z_lstore_n hX dX18_against_1 rfl (i := 2) (Nat.le_of_ble_eq_true rfl) rfl (ls2 := [some (va_rf (some a0)), some (.int x1), some (.long (0 : Int64)), none, none]) rfl ?_
  refine z_iconst hX (v := (0 : Int32)) dX18_against_2 (by decide) ?_
  refine z_istore hX dX18_against_3 (i := 4) (Nat.le_of_ble_eq_true rfl) trivial (ls2 := [some (va_rf (some a0)), some (.int x1), some (.long (0 : Int64)), none, some (.int (0 : Int32))]) rfl ?_
  obtain ⟨n62, hw⟩ := hw
  refine zIt_w (P := fun (j : Int64 → Int32 → zS → Prop) => ∀ (p1 : Int64) (p2 : Int32) (s3 : zS), j p1 p2 s3 → zW X s3 5 [some (va_rf (some a0)), some (.int x1), some (.long p1), none, some (.int p2)] []) (fun _ _ _ h => h.elim) (fun rec4 hrec4 p1 p2 s3 hw => ?_) n62 _ _ _ hw
  refine z_iload hX dX18_against_5 (i := 4) rfl ?_
  refine z_aload_n hX dX18_against_7 rfl (i := 0) rfl ?_
  obtain ⟨a6, f7, v5, r8, m9, e10, hw⟩ := hw
  refine z_get hX zc23 (k := 3) dX18_against_8 (Nat.le_of_ble_eq_true rfl) (zlk hX q567) r8 m9 e10 ?_
  obtain ⟨a11, n12, r13, m14, hw⟩ := hw
  refine z_alen hX 1 dX18_against_11 r13 m14 ?_
  revert hw
  generalize nI n12.1 = v15
  intro hw
  refine z_icmp_ge hX dX18_against_12 (tgt := 45) rfl (fun c17 => ?_) (fun c17 => ?_)
  · have hw := hw.1 c17
    refine z_lload_n hX dX18_against_45 rfl (i := 2) rfl ?_
    exact z_lreturn hX hR dX18_against_46 hw
  · have hw := hw.2 c17
    refine z_lload_n hX dX18_against_15 rfl (i := 2) rfl ?_
    refine z_aload_n hX dX18_against_16 rfl (i := 0) rfl ?_
    obtain ⟨a19, f20, v18, r21, m22, e23, hw⟩ := hw
    refine z_get hX zc23 (k := 3) dX18_against_17 (Nat.le_of_ble_eq_true rfl) (zlk hX q567) r21 m22 e23 ?_
    refine z_iload hX dX18_against_20 (i := 4) rfl ?_
    obtain ⟨a24, n25, f26, r27, m28, i29, hw⟩ := hw
    refine z_lald hX dX18_against_22 r27 m28 i29 ?_
    revert hw
    generalize f26 (Int32.toNatClampNeg p2) = v30
    intro hw
    refine z_aload_n hX dX18_against_23 rfl (i := 0) rfl ?_
    obtain ⟨a33, f34, v32, r35, m36, e37, hw⟩ := hw
    refine z_get hX zc23 (k := 0) dX18_against_24 (Nat.le_of_ble_eq_true rfl) (zlk hX q562) r35 m36 e37 ?_
    obtain ⟨a39, f40, v38, r41, m42, e43, hw⟩ := hw
    refine z_get hX zc22 (k := 2) dX18_against_27 (Nat.le_of_ble_eq_true rfl) (zlkN hX "PackingDuel" q503) r41 m42 e43 ?_
    refine z_iload hX dX18_against_30 (i := 4) rfl ?_
    obtain ⟨a44, n45, f46, r47, m48, i49, hw⟩ := hw
    refine z_aald hX 5 dX18_against_32 rfl r47 m48 i49 ?_
    revert hw
    generalize f46 (Int32.toNatClampNeg p2) = v50
    intro hw
    refine z_iload_n hX dX18_against_33 rfl (i := 1) rfl ?_
    obtain ⟨a52, n53, f54, r55, m56, i57, hw⟩ := hw
    refine z_iald hX dX18_against_34 r55 m56 i57 ?_
    revert hw
    generalize f54 (Int32.toNatClampNeg x1) = v58
    intro hw
    refine z_i2l hX dX18_against_35 ?_
    refine z_lmul hX dX18_against_36 ?_
    refine z_ladd hX dX18_against_37 ?_
    refine z_lstore_n hX dX18_against_38 rfl (i := 2) (Nat.le_of_ble_eq_true rfl) rfl (ls2 := [some (va_rf (some a0)), some (.int x1), some (.long (p1 + (v30 * v58.toInt64))), none, some (.int p2)]) rfl ?_
    obtain ⟨v60, e61⟩ : ∃ y : Int32, y = p2 + (1 : Int32) := ⟨_, rfl⟩
    refine z_iinc hX dX18_against_39 (i := 4) (v := v60) rfl (by rw [e61]; rfl) (Nat.le_of_ble_eq_true rfl) trivial (ls2 := [some (va_rf (some a0)), some (.int x1), some (.long (p1 + (v30 * v58.toInt64))), none, some (.int v60)]) rfl ?_
    have hw := hw v60 e61
    refine z_goto hX dX18_against_42 (tgt := 5) rfl ?_
    exact hrec4 _ _ _ hw
abbrev cX18_by : ByteArray := prog_10_method_5_code
def yX18_by : MethodName := ⟨RX18, "by", "(I)J"⟩
def dkwX18_by_1 : List UInt8 := [180, 0, 7, 180, 0, 63, 27, 50, 21, 4, 46, 133, 105, 97, 65, 132, 4, 1, 167, 255, 219, 32, 173]
abbrev dktX18_by_1 : List UInt8 := dkwX18_by_1 ++ []
def dkwX18_by_0 : List UInt8 := [9, 65, 3, 54, 4, 21, 4, 42, 180, 0, 32, 190, 162, 0, 33, 32, 42, 180, 0, 32, 21, 4, 47, 42]
abbrev dktX18_by_0 : List UInt8 := dkwX18_by_0 ++ dktX18_by_1
theorem dksX18_by_0 : cX18_by.data.toList.drop 0 = dktX18_by_0 := by decide +kernel
theorem dksX18_by_1 : cX18_by.data.toList.drop 24 = dktX18_by_1 := dk_seg dksX18_by_0 24 rfl rfl
theorem dX18_by_0 : decode cX18_by 0 = .ok (.lconst 0, 1) := dk_9 (dk_at dksX18_by_0 0 rfl rfl)
theorem dX18_by_1 : decode cX18_by 1 = .ok (.lstore_n 2, 1) := dk_65 (dk_at dksX18_by_0 1 rfl rfl)
theorem dX18_by_2 : decode cX18_by 2 = .ok (.iconst 0, 1) := dk_3 (dk_at dksX18_by_0 2 rfl rfl)
theorem dX18_by_3 : decode cX18_by 3 = .ok (.istore 4, 2) := dk_54 4 (dk_at dksX18_by_0 3 rfl rfl)
theorem dX18_by_5 : decode cX18_by 5 = .ok (.iload 4, 2) := dk_21 4 (dk_at dksX18_by_0 5 rfl rfl)
theorem dX18_by_7 : decode cX18_by 7 = .ok (.aload_n 0, 1) := dk_42 (dk_at dksX18_by_0 7 rfl rfl)
theorem dX18_by_8 : decode cX18_by 8 = .ok (.getfield 32, 3) := dk_180 0 32 (dk_at dksX18_by_0 8 rfl rfl)
theorem dX18_by_11 : decode cX18_by 11 = .ok (.arraylength, 1) := dk_190 (dk_at dksX18_by_0 11 rfl rfl)
theorem dX18_by_12 : decode cX18_by 12 = .ok (.if_icmp .ge 33, 3) := dk_162 0 33 (dk_at dksX18_by_0 12 rfl rfl)
theorem dX18_by_15 : decode cX18_by 15 = .ok (.lload_n 2, 1) := dk_32 (dk_at dksX18_by_0 15 rfl rfl)
theorem dX18_by_16 : decode cX18_by 16 = .ok (.aload_n 0, 1) := dk_42 (dk_at dksX18_by_0 16 rfl rfl)
theorem dX18_by_17 : decode cX18_by 17 = .ok (.getfield 32, 3) := dk_180 0 32 (dk_at dksX18_by_0 17 rfl rfl)
theorem dX18_by_20 : decode cX18_by 20 = .ok (.iload 4, 2) := dk_21 4 (dk_at dksX18_by_0 20 rfl rfl)
theorem dX18_by_22 : decode cX18_by 22 = .ok (.laload, 1) := dk_47 (dk_at dksX18_by_0 22 rfl rfl)
theorem dX18_by_23 : decode cX18_by 23 = .ok (.aload_n 0, 1) := dk_42 (dk_at dksX18_by_0 23 rfl rfl)
theorem dX18_by_24 : decode cX18_by 24 = .ok (.getfield 7, 3) := dk_180 0 7 (dk_at dksX18_by_1 0 rfl rfl)
theorem dX18_by_27 : decode cX18_by 27 = .ok (.getfield 63, 3) := dk_180 0 63 (dk_at dksX18_by_1 3 rfl rfl)
theorem dX18_by_30 : decode cX18_by 30 = .ok (.iload_n 1, 1) := dk_27 (dk_at dksX18_by_1 6 rfl rfl)
theorem dX18_by_31 : decode cX18_by 31 = .ok (.aaload, 1) := dk_50 (dk_at dksX18_by_1 7 rfl rfl)
theorem dX18_by_32 : decode cX18_by 32 = .ok (.iload 4, 2) := dk_21 4 (dk_at dksX18_by_1 8 rfl rfl)
theorem dX18_by_34 : decode cX18_by 34 = .ok (.iaload, 1) := dk_46 (dk_at dksX18_by_1 10 rfl rfl)
theorem dX18_by_35 : decode cX18_by 35 = .ok (.i2l, 1) := dk_133 (dk_at dksX18_by_1 11 rfl rfl)
theorem dX18_by_36 : decode cX18_by 36 = .ok (.lmul, 1) := dk_105 (dk_at dksX18_by_1 12 rfl rfl)
theorem dX18_by_37 : decode cX18_by 37 = .ok (.ladd, 1) := dk_97 (dk_at dksX18_by_1 13 rfl rfl)
theorem dX18_by_38 : decode cX18_by 38 = .ok (.lstore_n 2, 1) := dk_65 (dk_at dksX18_by_1 14 rfl rfl)
theorem dX18_by_39 : decode cX18_by 39 = .ok (.iinc 4 1, 3) := dk_132 4 1 (dk_at dksX18_by_1 15 rfl rfl)
theorem dX18_by_42 : decode cX18_by 42 = .ok (.goto (-37), 3) := dk_167 255 219 (dk_at dksX18_by_1 18 rfl rfl)
theorem dX18_by_45 : decode cX18_by 45 = .ok (.lload_n 2, 1) := dk_32 (dk_at dksX18_by_1 21 rfl rfl)
theorem dX18_by_46 : decode cX18_by 46 = .ok (.lreturn, 1) := dk_173 (dk_at dksX18_by_1 22 rfl rfl)
/-- PackingDuel$Kernel.by(I)J -/
def zb502 (G : zPg) (C : zO) (args : List Value) (Q : zQ) (Y : zY) (σ : zS) : Prop := ∃ (a0 : Nat) (x1 : Int32), args = [.ref a0, .int x1] ∧ (∃ n, zIt (fun _ _ _ => False) (fun rec4 (p1 : Int64) (p2 : Int32) (s3 : zS) => zgR s3 (some a0) 23 4 (fun v5 => zln s3 1 v5 (fun v15 => ((v15 ≤ p2) → Q (some (.long p1)) s3) ∧ ((¬ v15 ≤ p2) → zgR s3 (some a0) 23 4 (fun v18 => zaL s3 v18 p2 (fun v30 => zgR s3 (some a0) 23 0 (fun v32 => zgR s3 v32 22 2 (fun v38 => zaR s3 5 v38 x1 (fun v50 => zaI s3 0 v50 p2 (fun v58 => (∀ v60 : Int32, v60 = p2 + (1 : Int32) → rec4 (p1 + (v30 * v58.toInt64)) v60 s3))))))))))) n (0 : Int64) (0 : Int32) σ)
set_option maxHeartbeats 4000000 in
theorem wk502 {l : Launch} {g : zG} {d : Nat} {C : zO} (hG : zGk g) (hC : zSound l g d C) {args : List Value} {Q : zQ} {Y : zY} {σ : zS} (hw : zb502 (zpg g) C args Q Y σ) : zMet l g (d + 1) (⟨"PackingDuel$Kernel", "by", "(I)J"⟩, Cond.code ⟨"PackingDuel$Kernel", "by", "(I)J"⟩ prog_10_method_5_code 5 (Option.some FieldType.long)) args σ Q Y := by
  obtain ⟨a0, x1, rfl, hw⟩ := hw
  refine zof hG (by decide +kernel) [false, false] ⟨rfl, rfl, trivial⟩ (Nat.le_of_ble_eq_true rfl) (ls := [some (va_rf (some a0)), some (.int x1), none, none, none]) rfl ?_
  intro X hX hR hTb hd1 hd2 hl hg hnm
  subst hl
  subst hg
  have hd : zDep X d := ⟨hd1, hd2⟩
  refine z_lconst hX (v := (0 : Int64)) dX18_by_0 (by decide) ?_
  refine z_lstore_n hX dX18_by_1 rfl (i := 2) (Nat.le_of_ble_eq_true rfl) rfl (ls2 := [some (va_rf (some a0)), some (.int x1), some (.long (0 : Int64)), none, none]) rfl ?_
  refine z_iconst hX (v := (0 : Int32)) dX18_by_2 (by decide) ?_
  refine z_istore hX dX18_by_3 (i := 4) (Nat.le_of_ble_eq_true rfl) trivial (ls2 := [some (va_rf (some a0)), some (.int x1), some (.long (0 : Int64)), none, some (.int (0 : Int32))]) rfl ?_
  obtain ⟨n62, hw⟩ := hw
  refine zIt_w (P := fun (j : Int64 → Int32 → zS → Prop) => ∀ (p1 : Int64) (p2 : Int32) (s3 : zS), j p1 p2 s3 → zW X s3 5 [some (va_rf (some a0)), some (.int x1), some (.long p1), none, some (.int p2)] []) (fun _ _ _ h => h.elim) (fun rec4 hrec4 p1 p2 s3 hw => ?_) n62 _ _ _ hw
  refine z_iload hX dX18_by_5 (i := 4) rfl ?_
  refine z_aload_n hX dX18_by_7 rfl (i := 0) rfl ?_
  obtain ⟨a6, f7, v5, r8, m9, e10, hw⟩ := hw
  refine z_get hX zc23 (k := 4) dX18_by_8 (Nat.le_of_ble_eq_true rfl) (zlk hX q569) r8 m9 e10 ?_
  obtain ⟨a11, n12, r13, m14, hw⟩ := hw
  refine z_alen hX 1 dX18_by_11 r13 m14 ?_
  revert hw
  generalize nI n12.1 = v15
  intro hw
  refine z_icmp_ge hX dX18_by_12 (tgt := 45) rfl (fun c17 => ?_) (fun c17 => ?_)
  · have hw := hw.1 c17
    refine z_lload_n hX dX18_by_45 rfl (i := 2) rfl ?_
    exact z_lreturn hX hR dX18_by_46 hw
  · have hw := hw.2 c17
    refine z_lload_n hX dX18_by_15 rfl (i := 2) rfl ?_
    refine z_aload_n hX dX18_by_16 rfl (i := 0) rfl ?_
    obtain ⟨a19, f20, v18, r21, m22, e23, hw⟩ := hw
    refine z_get hX zc23 (k := 4) dX18_by_17 (Nat.le_of_ble_eq_true rfl) (zlk hX q569) r21 m22 e23 ?_
    refine z_iload hX dX18_by_20 (i := 4) rfl ?_
    obtain ⟨a24, n25, f26, r27, m28, i29, hw⟩ := hw
    refine z_lald hX dX18_by_22 r27 m28 i29 ?_
    revert hw
    generalize f26 (Int32.toNatClampNeg p2) = v30
    intro hw
    refine z_aload_n hX dX18_by_23 rfl (i := 0) rfl ?_
    obtain ⟨a33, f34, v32, r35, m36, e37, hw⟩ := hw
    refine z_get hX zc23 (k := 0) dX18_by_24 (Nat.le_of_ble_eq_true rfl) (zlk hX q562) r35 m36 e37 ?_
    obtain ⟨a39, f40, v38, r41, m42, e43, hw⟩ := hw
    refine z_get hX zc22 (k := 2) dX18_by_27 (Nat.le_of_ble_eq_true rfl) (zlkN hX "PackingDuel" q503) r41 m42 e43 ?_
    refine z_iload_n hX dX18_by_30 rfl (i := 1) rfl ?_
    obtain ⟨a44, n45, f46, r47, m48, i49, hw⟩ := hw
    refine z_aald hX 5 dX18_by_31 rfl r47 m48 i49 ?_
    revert hw
    generalize f46 (Int32.toNatClampNeg x1) = v50
    intro hw
    refine z_iload hX dX18_by_32 (i := 4) rfl ?_
    obtain ⟨a52, n53, f54, r55, m56, i57, hw⟩ := hw
    refine z_iald hX dX18_by_34 r55 m56 i57 ?_
    revert hw
    generalize f54 (Int32.toNatClampNeg p2) = v58
    intro hw
    refine z_i2l hX dX18_by_35 ?_
    refine z_lmul hX dX18_by_36 ?_
    refine z_ladd hX dX18_by_37 ?_
    refine z_lstore_n hX dX18_by_38 rfl (i := 2) (Nat.le_of_ble_eq_true rfl) rfl (ls2 := [some (va_rf (some a0)), some (.int x1), some (.long (p1 + (v30 * v58.toInt64))), none, some (.int p2)]) rfl ?_
    obtain ⟨v60, e61⟩ : ∃ y : Int32, y = p2 + (1 : Int32) := ⟨_, rfl⟩
    refine z_iinc hX dX18_by_39 (i := 4) (v := v60) rfl (by rw [e61]; rfl) (Nat.le_of_ble_eq_true rfl) trivial (ls2 := [some (va_rf (some a0)), some (.int x1), some (.long (p1 + (v30 * v58.toInt64))), none, some (.int v60)]) rfl ?_
    have hw := hw v60 e61
    refine z_goto hX dX18_by_42 (tgt := 5) rfl ?_
    exact hrec4 _ _ _ hw
abbrev cX19_init : ByteArray := prog_18_method_1_code
def yX19_init : MethodName := ⟨RX19, "<init>", "(JJ)V"⟩
def dkwX19_init_3 : List UInt8 := [181, 0, 19, 177]
abbrev dktX19_init_3 : List UInt8 := dkwX19_init_3 ++ []
def dkwX19_init_2 : List UInt8 := [22, 5, 117, 167, 0, 5, 22, 5, 55, 9, 42, 31, 22, 9, 109, 181, 0, 13, 42, 33, 22, 9, 109]
abbrev dktX19_init_2 : List UInt8 := dkwX19_init_2 ++ dktX19_init_3
def dkwX19_init_1 : List UInt8 := [22, 5, 22, 7, 113, 55, 9, 22, 7, 55, 5, 22, 9, 55, 7, 167, 255, 234, 33, 9, 148, 156, 0, 9]
abbrev dktX19_init_1 : List UInt8 := dkwX19_init_1 ++ dktX19_init_2
def dkwX19_init_0 : List UInt8 := [42, 183, 0, 1, 31, 184, 0, 7, 55, 5, 33, 184, 0, 7, 55, 7, 22, 7, 9, 148, 153, 0, 21]
abbrev dktX19_init_0 : List UInt8 := dkwX19_init_0 ++ dktX19_init_1
theorem dksX19_init_0 : cX19_init.data.toList.drop 0 = dktX19_init_0 := by decide +kernel
theorem dksX19_init_1 : cX19_init.data.toList.drop 23 = dktX19_init_1 := dk_seg dksX19_init_0 23 rfl rfl
theorem dksX19_init_2 : cX19_init.data.toList.drop 47 = dktX19_init_2 := dk_seg dksX19_init_1 24 rfl rfl
theorem dksX19_init_3 : cX19_init.data.toList.drop 70 = dktX19_init_3 := dk_seg dksX19_init_2 23 rfl rfl
theorem dX19_init_0 : decode cX19_init 0 = .ok (.aload_n 0, 1) := dk_42 (dk_at dksX19_init_0 0 rfl rfl)
theorem dX19_init_1 : decode cX19_init 1 = .ok (.invokespecial 1, 3) := dk_183 0 1 (dk_at dksX19_init_0 1 rfl rfl)
theorem dX19_init_4 : decode cX19_init 4 = .ok (.lload_n 1, 1) := dk_31 (dk_at dksX19_init_0 4 rfl rfl)
theorem dX19_init_5 : decode cX19_init 5 = .ok (.invokestatic 7, 3) := dk_184 0 7 (dk_at dksX19_init_0 5 rfl rfl)
theorem dX19_init_8 : decode cX19_init 8 = .ok (.lstore 5, 2) := dk_55 5 (dk_at dksX19_init_0 8 rfl rfl)
theorem dX19_init_10 : decode cX19_init 10 = .ok (.lload_n 3, 1) := dk_33 (dk_at dksX19_init_0 10 rfl rfl)
theorem dX19_init_11 : decode cX19_init 11 = .ok (.invokestatic 7, 3) := dk_184 0 7 (dk_at dksX19_init_0 11 rfl rfl)
theorem dX19_init_14 : decode cX19_init 14 = .ok (.lstore 7, 2) := dk_55 7 (dk_at dksX19_init_0 14 rfl rfl)
theorem dX19_init_16 : decode cX19_init 16 = .ok (.lload 7, 2) := dk_22 7 (dk_at dksX19_init_0 16 rfl rfl)
theorem dX19_init_18 : decode cX19_init 18 = .ok (.lconst 0, 1) := dk_9 (dk_at dksX19_init_0 18 rfl rfl)
theorem dX19_init_19 : decode cX19_init 19 = .ok (.lcmp, 1) := dk_148 (dk_at dksX19_init_0 19 rfl rfl)
theorem dX19_init_20 : decode cX19_init 20 = .ok (.ifCond .eq 21, 3) := dk_153 0 21 (dk_at dksX19_init_0 20 rfl rfl)
theorem dX19_init_23 : decode cX19_init 23 = .ok (.lload 5, 2) := dk_22 5 (dk_at dksX19_init_1 0 rfl rfl)
theorem dX19_init_25 : decode cX19_init 25 = .ok (.lload 7, 2) := dk_22 7 (dk_at dksX19_init_1 2 rfl rfl)
theorem dX19_init_27 : decode cX19_init 27 = .ok (.lrem, 1) := dk_113 (dk_at dksX19_init_1 4 rfl rfl)
theorem dX19_init_28 : decode cX19_init 28 = .ok (.lstore 9, 2) := dk_55 9 (dk_at dksX19_init_1 5 rfl rfl)
theorem dX19_init_30 : decode cX19_init 30 = .ok (.lload 7, 2) := dk_22 7 (dk_at dksX19_init_1 7 rfl rfl)
theorem dX19_init_32 : decode cX19_init 32 = .ok (.lstore 5, 2) := dk_55 5 (dk_at dksX19_init_1 9 rfl rfl)
theorem dX19_init_34 : decode cX19_init 34 = .ok (.lload 9, 2) := dk_22 9 (dk_at dksX19_init_1 11 rfl rfl)
theorem dX19_init_36 : decode cX19_init 36 = .ok (.lstore 7, 2) := dk_55 7 (dk_at dksX19_init_1 13 rfl rfl)
theorem dX19_init_38 : decode cX19_init 38 = .ok (.goto (-22), 3) := dk_167 255 234 (dk_at dksX19_init_1 15 rfl rfl)
theorem dX19_init_41 : decode cX19_init 41 = .ok (.lload_n 3, 1) := dk_33 (dk_at dksX19_init_1 18 rfl rfl)
theorem dX19_init_42 : decode cX19_init 42 = .ok (.lconst 0, 1) := dk_9 (dk_at dksX19_init_1 19 rfl rfl)
theorem dX19_init_43 : decode cX19_init 43 = .ok (.lcmp, 1) := dk_148 (dk_at dksX19_init_1 20 rfl rfl)
theorem dX19_init_44 : decode cX19_init 44 = .ok (.ifCond .ge 9, 3) := dk_156 0 9 (dk_at dksX19_init_1 21 rfl rfl)
theorem dX19_init_47 : decode cX19_init 47 = .ok (.lload 5, 2) := dk_22 5 (dk_at dksX19_init_2 0 rfl rfl)
theorem dX19_init_49 : decode cX19_init 49 = .ok (.lneg, 1) := dk_117 (dk_at dksX19_init_2 2 rfl rfl)
theorem dX19_init_50 : decode cX19_init 50 = .ok (.goto 5, 3) := dk_167 0 5 (dk_at dksX19_init_2 3 rfl rfl)
theorem dX19_init_53 : decode cX19_init 53 = .ok (.lload 5, 2) := dk_22 5 (dk_at dksX19_init_2 6 rfl rfl)
theorem dX19_init_55 : decode cX19_init 55 = .ok (.lstore 9, 2) := dk_55 9 (dk_at dksX19_init_2 8 rfl rfl)
theorem dX19_init_57 : decode cX19_init 57 = .ok (.aload_n 0, 1) := dk_42 (dk_at dksX19_init_2 10 rfl rfl)
theorem dX19_init_58 : decode cX19_init 58 = .ok (.lload_n 1, 1) := dk_31 (dk_at dksX19_init_2 11 rfl rfl)
theorem dX19_init_59 : decode cX19_init 59 = .ok (.lload 9, 2) := dk_22 9 (dk_at dksX19_init_2 12 rfl rfl)
theorem dX19_init_61 : decode cX19_init 61 = .ok (.ldiv, 1) := dk_109 (dk_at dksX19_init_2 14 rfl rfl)
theorem dX19_init_62 : decode cX19_init 62 = .ok (.putfield 13, 3) := dk_181 0 13 (dk_at dksX19_init_2 15 rfl rfl)
theorem dX19_init_65 : decode cX19_init 65 = .ok (.aload_n 0, 1) := dk_42 (dk_at dksX19_init_2 18 rfl rfl)
theorem dX19_init_66 : decode cX19_init 66 = .ok (.lload_n 3, 1) := dk_33 (dk_at dksX19_init_2 19 rfl rfl)
theorem dX19_init_67 : decode cX19_init 67 = .ok (.lload 9, 2) := dk_22 9 (dk_at dksX19_init_2 20 rfl rfl)
theorem dX19_init_69 : decode cX19_init 69 = .ok (.ldiv, 1) := dk_109 (dk_at dksX19_init_2 22 rfl rfl)
theorem dX19_init_70 : decode cX19_init 70 = .ok (.putfield 19, 3) := dk_181 0 19 (dk_at dksX19_init_3 0 rfl rfl)
theorem dX19_init_73 : decode cX19_init 73 = .ok (.return_, 1) := dk_177 (dk_at dksX19_init_3 3 rfl rfl)
/-- PackingDuel$Ratio.<init>(JJ)V -/
def zb503 (G : zPg) (C : zO) (args : List Value) (Q : zQ) (Y : zY) (σ : zS) : Prop := ∃ (a0 : Nat) (x1 : Int64) (x2 : Int64), args = [.ref a0, .long x1, .long x2] ∧ ((∃ a1, (some a0) = some a1 ∧ zcl C 296 [.long x1] Y σ (zqL (fun v3 s4 => zcl C 296 [.long x2] Y s4 (zqL (fun v6 s7 => ∃ n, zIt (fun _ _ _ => False) (fun rec12 (p9 : Int64) (p10 : Int64) (s11 : zS) => (((lg_cmp p10 (0 : Int64)) = 0) → zJ (fun (p14 : Int64) (s15 : zS) => (¬ p14 = 0 ∧ zput s15 G.1 (some a0) 24 0 (.long (x1 / p14)) (fun s17 => (¬ p14 = 0 ∧ zput s17 G.1 (some a0) 24 1 (.long (x2 / p14)) (fun s25 => Q none s25))))) (fun (j16 : Int64 → zS → Prop) => ((0 ≤ (lg_cmp x2 (0 : Int64))) → j16 p9 s11) ∧ ((¬ 0 ≤ (lg_cmp x2 (0 : Int64))) → j16 (-p9) s11))) ∧ ((¬ (lg_cmp p10 (0 : Int64)) = 0) → (¬ p10 = 0 ∧ rec12 p10 (p9 - p9 / p10 * p10) s11))) n v3 v6 s7))))))
set_option maxHeartbeats 4000000 in
theorem wk503 {l : Launch} {g : zG} {d : Nat} {C : zO} (hG : zGk g) (hC : zSound l g d C) {args : List Value} {Q : zQ} {Y : zY} {σ : zS} (hw : zb503 (zpg g) C args Q Y σ) : zMet l g (d + 1) (⟨"PackingDuel$Ratio", "<init>", "(JJ)V"⟩, Cond.code ⟨"PackingDuel$Ratio", "<init>", "(JJ)V"⟩ prog_18_method_1_code 11 (Option.none : Option FieldType)) args σ Q Y := by
  obtain ⟨a0, x1, x2, rfl, hw⟩ := hw
  refine zof hG (by decide +kernel) [false, true, true] ⟨rfl, rfl, rfl, trivial⟩ (Nat.le_of_ble_eq_true rfl) (ls := [some (va_rf (some a0)), some (.long x1), none, some (.long x2), none, none, none, none, none, none, none]) rfl ?_
  intro X hX hR hTb hd1 hd2 hl hg hnm
  subst hl
  subst hg
  have hd : zDep X d := ⟨hd1, hd2⟩
  refine z_aload_n hX dX19_init_0 rfl (i := 0) rfl ?_
  obtain ⟨a1, r2, hw⟩ := hw
  refine z_oinit hX hd dX19_init_1 q609 q191 q192 r2 rfl (zcs8 (Nat.le_of_ble_eq_true rfl)) ?_
  refine z_lload_n hX dX19_init_4 rfl (i := 1) rfl ?_
  refine z_invS hX hd dX19_init_5 (hC 296 _ zm296 _ _ _ _ hw) q610 q611 zh8 q612 q137 zn296 rfl (Nat.le_of_ble_eq_true rfl) (st := []) rfl (zcs8 (Nat.le_of_ble_eq_true rfl)) rfl (zkL (fun v3 s4 hw => ?_)) (zout hX hR hTb)
  refine z_lstore hX dX19_init_8 (i := 5) (Nat.le_of_ble_eq_true rfl) trivial (ls2 := [some (va_rf (some a0)), some (.long x1), none, some (.long x2), none, some (.long v3), none, none, none, none, none]) rfl ?_
  refine z_lload_n hX dX19_init_10 rfl (i := 3) rfl ?_
  refine z_invS hX hd dX19_init_11 (hC 296 _ zm296 _ _ _ _ hw) q610 q611 zh8 q612 q137 zn296 rfl (Nat.le_of_ble_eq_true rfl) (st := []) rfl (zcs8 (Nat.le_of_ble_eq_true rfl)) rfl (zkL (fun v6 s7 hw => ?_)) (zout hX hR hTb)
  refine z_lstore hX dX19_init_14 (i := 7) (Nat.le_of_ble_eq_true rfl) trivial (ls2 := [some (va_rf (some a0)), some (.long x1), none, some (.long x2), none, some (.long v3), none, some (.long v6), none, none, none]) rfl ?_
  obtain ⟨n34, hw⟩ := hw
  refine zIt_w (P := fun (j : Int64 → Int64 → zS → Prop) => ∀ (p9 : Int64) (p10 : Int64) (s11 : zS), j p9 p10 s11 → zW X s11 16 [some (va_rf (some a0)), some (.long x1), none, some (.long x2), none, some (.long p9), none, some (.long p10), none, none, none] []) (fun _ _ _ h => h.elim) (fun rec12 hrec12 p9 p10 s11 hw => ?_) n34 _ _ _ hw
  refine z_lload hX dX19_init_16 (i := 7) rfl ?_
  refine z_lconst hX (v := (0 : Int64)) dX19_init_18 (by decide) ?_
  refine z_lcmp hX dX19_init_19 ?_
  refine z_if_eq hX dX19_init_20 (tgt := 41) rfl (fun c13 => ?_) (fun c13 => ?_)
  · have hw := hw.1 c13
    refine z_lload_n hX dX19_init_41 rfl (i := 3) rfl ?_
    refine z_lconst hX (v := (0 : Int64)) dX19_init_42 (by decide) ?_
    refine z_lcmp hX dX19_init_43 ?_
    refine zJ_w (P := fun (j : Int64 → zS → Prop) => ∀ (p14 : Int64) (s15 : zS), j p14 s15 → zW X s15 55 [some (va_rf (some a0)), some (.long x1), none, some (.long x2), none, none, none, none, none, none, none] [.long p14]) hw (fun p14 s15 hw => ?_) (fun j16 hj16 hw => ?_)
    · refine z_lstore hX dX19_init_55 (i := 9) (Nat.le_of_ble_eq_true rfl) trivial (ls2 := [some (va_rf (some a0)), some (.long x1), none, some (.long x2), none, none, none, none, none, some (.long p14), none]) rfl ?_
      refine z_aload_n hX dX19_init_57 rfl (i := 0) rfl ?_
      refine z_lload_n hX dX19_init_58 rfl (i := 1) rfl ?_
      refine z_lload hX dX19_init_59 (i := 9) rfl ?_
      refine z_ldiv hX dX19_init_61 hw.1 ?_
      have hw := hw.2
      obtain ⟨a19, f20, r21, g22, m23, l24, hw⟩ := hw
      refine z_putF hX zc24 (k := 0) dX19_init_62 (Nat.le_of_ble_eq_true rfl) q613 rfl hnm rfl rfl rfl r21 g22 m23 l24 (z_nm (fun s17 e18 => ?_))
      have hw := hw s17 e18
      refine z_aload_n hX dX19_init_65 rfl (i := 0) rfl ?_
      refine z_lload_n hX dX19_init_66 rfl (i := 3) rfl ?_
      refine z_lload hX dX19_init_67 (i := 9) rfl ?_
      refine z_ldiv hX dX19_init_69 hw.1 ?_
      have hw := hw.2
      obtain ⟨a27, f28, r29, g30, m31, l32, hw⟩ := hw
      refine z_putF hX zc24 (k := 1) dX19_init_70 (Nat.le_of_ble_eq_true rfl) q615 rfl hnm rfl rfl rfl r29 g30 m31 l32 (z_nm (fun s25 e26 => ?_))
      have hw := hw s25 e26
      exact z_return hX hR dX19_init_73 hw
    · refine z_if_ge hX dX19_init_44 (tgt := 53) rfl (fun c33 => ?_) (fun c33 => ?_)
      · have hw := hw.1 c33
        refine z_lload hX dX19_init_53 (i := 5) rfl ?_
        refine z_sub (ls' := [some (va_rf (some a0)), some (.long x1), none, some (.long x2), none, none, none, none, none, none, none]) (zsS (zsS (zsN (zsS (zsN (zsN (zsN (zsN (zsN (zsN (zsN (zs0)))))))))))) ?_
        exact hj16 _ _ hw
      · have hw := hw.2 c33
        refine z_lload hX dX19_init_47 (i := 5) rfl ?_
        refine z_lneg hX dX19_init_49 ?_
        refine z_goto hX dX19_init_50 (tgt := 55) rfl ?_
        refine z_sub (ls' := [some (va_rf (some a0)), some (.long x1), none, some (.long x2), none, none, none, none, none, none, none]) (zsS (zsS (zsN (zsS (zsN (zsN (zsN (zsN (zsN (zsN (zsN (zs0)))))))))))) ?_
        exact hj16 _ _ hw
  · have hw := hw.2 c13
    refine z_lload hX dX19_init_23 (i := 5) rfl ?_
    refine z_lload hX dX19_init_25 (i := 7) rfl ?_
    refine z_lrem hX dX19_init_27 hw.1 ?_
    have hw := hw.2
    refine z_lstore hX dX19_init_28 (i := 9) (Nat.le_of_ble_eq_true rfl) trivial (ls2 := [some (va_rf (some a0)), some (.long x1), none, some (.long x2), none, some (.long p9), none, some (.long p10), none, some (.long (p9 - p9 / p10 * p10)), none]) rfl ?_
    refine z_lload hX dX19_init_30 (i := 7) rfl ?_
    refine z_lstore hX dX19_init_32 (i := 5) (Nat.le_of_ble_eq_true rfl) trivial (ls2 := [some (va_rf (some a0)), some (.long x1), none, some (.long x2), none, some (.long p10), none, some (.long p10), none, some (.long (p9 - p9 / p10 * p10)), none]) rfl ?_
    refine z_lload hX dX19_init_34 (i := 9) rfl ?_
    refine z_lstore hX dX19_init_36 (i := 7) (Nat.le_of_ble_eq_true rfl) trivial (ls2 := [some (va_rf (some a0)), some (.long x1), none, some (.long x2), none, some (.long p10), none, some (.long (p9 - p9 / p10 * p10)), none, some (.long (p9 - p9 / p10 * p10)), none]) rfl ?_
    refine z_goto hX dX19_init_38 (tgt := 16) rfl ?_
    refine z_sub (ls' := [some (va_rf (some a0)), some (.long x1), none, some (.long x2), none, some (.long p10), none, some (.long (p9 - p9 / p10 * p10)), none, none, none]) (zsS (zsS (zsN (zsS (zsN (zsS (zsN (zsS (zsN (zsN (zsN (zs0)))))))))))) ?_
    exact hrec12 _ _ _ hw
abbrev cX20_init : ByteArray := prog_15_method_1_code
def yX20_init : MethodName := ⟨RX20, "<init>", "(LPackingDuel$State;)V"⟩
def dkwX20_init_1 : List UInt8 := [42, 42, 180, 0, 27, 190, 188, 4, 181, 0, 31, 177]
abbrev dktX20_init_1 : List UInt8 := dkwX20_init_1 ++ []
def dkwX20_init_0 : List UInt8 := [42, 183, 0, 3, 42, 43, 181, 0, 9, 42, 7, 43, 182, 0, 15, 182, 0, 21, 104, 188, 10, 181, 0, 27]
abbrev dktX20_init_0 : List UInt8 := dkwX20_init_0 ++ dktX20_init_1
theorem dksX20_init_0 : cX20_init.data.toList.drop 0 = dktX20_init_0 := by decide +kernel
theorem dksX20_init_1 : cX20_init.data.toList.drop 24 = dktX20_init_1 := dk_seg dksX20_init_0 24 rfl rfl
theorem dX20_init_0 : decode cX20_init 0 = .ok (.aload_n 0, 1) := dk_42 (dk_at dksX20_init_0 0 rfl rfl)
theorem dX20_init_1 : decode cX20_init 1 = .ok (.invokespecial 3, 3) := dk_183 0 3 (dk_at dksX20_init_0 1 rfl rfl)
theorem dX20_init_4 : decode cX20_init 4 = .ok (.aload_n 0, 1) := dk_42 (dk_at dksX20_init_0 4 rfl rfl)
theorem dX20_init_5 : decode cX20_init 5 = .ok (.aload_n 1, 1) := dk_43 (dk_at dksX20_init_0 5 rfl rfl)
theorem dX20_init_6 : decode cX20_init 6 = .ok (.putfield 9, 3) := dk_181 0 9 (dk_at dksX20_init_0 6 rfl rfl)
theorem dX20_init_9 : decode cX20_init 9 = .ok (.aload_n 0, 1) := dk_42 (dk_at dksX20_init_0 9 rfl rfl)
theorem dX20_init_10 : decode cX20_init 10 = .ok (.iconst 4, 1) := dk_7 (dk_at dksX20_init_0 10 rfl rfl)
theorem dX20_init_11 : decode cX20_init 11 = .ok (.aload_n 1, 1) := dk_43 (dk_at dksX20_init_0 11 rfl rfl)
theorem dX20_init_12 : decode cX20_init 12 = .ok (.invokevirtual 15, 3) := dk_182 0 15 (dk_at dksX20_init_0 12 rfl rfl)
theorem dX20_init_15 : decode cX20_init 15 = .ok (.invokevirtual 21, 3) := dk_182 0 21 (dk_at dksX20_init_0 15 rfl rfl)
theorem dX20_init_18 : decode cX20_init 18 = .ok (.imul, 1) := dk_104 (dk_at dksX20_init_0 18 rfl rfl)
theorem dX20_init_19 : decode cX20_init 19 = .ok (.newarray .int, 2) := dk_188_10 (dk_at dksX20_init_0 19 rfl rfl)
theorem dX20_init_21 : decode cX20_init 21 = .ok (.putfield 27, 3) := dk_181 0 27 (dk_at dksX20_init_0 21 rfl rfl)
theorem dX20_init_24 : decode cX20_init 24 = .ok (.aload_n 0, 1) := dk_42 (dk_at dksX20_init_1 0 rfl rfl)
theorem dX20_init_25 : decode cX20_init 25 = .ok (.aload_n 0, 1) := dk_42 (dk_at dksX20_init_1 1 rfl rfl)
theorem dX20_init_26 : decode cX20_init 26 = .ok (.getfield 27, 3) := dk_180 0 27 (dk_at dksX20_init_1 2 rfl rfl)
theorem dX20_init_29 : decode cX20_init 29 = .ok (.arraylength, 1) := dk_190 (dk_at dksX20_init_1 5 rfl rfl)
theorem dX20_init_30 : decode cX20_init 30 = .ok (.newarray .boolean, 2) := dk_188_4 (dk_at dksX20_init_1 6 rfl rfl)
theorem dX20_init_32 : decode cX20_init 32 = .ok (.putfield 31, 3) := dk_181 0 31 (dk_at dksX20_init_1 8 rfl rfl)
theorem dX20_init_35 : decode cX20_init 35 = .ok (.return_, 1) := dk_177 (dk_at dksX20_init_1 11 rfl rfl)
/-- PackingDuel$Outlook.<init>(LPackingDuel$State;)V -/
def zb504 (G : zPg) (C : zO) (args : List Value) (Q : zQ) (Y : zY) (σ : zS) : Prop := ∃ (a0 : Nat) (x1 : Option Nat), args = [.ref a0, va_rf x1] ∧ ((∃ a1, (some a0) = some a1 ∧ zput σ G.1 (some a0) 25 0 (va_rf x1) (fun s3 => zrc s3 x1 1 (fun a14 => zcl C 83 [.ref a14] Y s3 (zqR (fun v11 s12 => zrc s12 v11 14 (fun a21 => zcl C 452 [.ref a21] Y s12 (zqI (fun v18 s19 => znewA s19 0 ((4 : Int32) * v18) (.inl (fun _ => 0)) (fun s25 => zput s25 G.1 (some a0) 25 1 (va_rf (some s19.2.1)) (fun s28 => zgR s28 (some a0) 25 1 (fun v36 => zln s28 0 v36 (fun v46 => znewA s28 3 v46 (.inl (fun _ => 0)) (fun s48 => zput s48 G.1 (some a0) 25 2 (va_rf (some s28.2.1)) (fun s51 => Q none s51)))))))))))))))
set_option maxHeartbeats 4000000 in
theorem wk504 {l : Launch} {g : zG} {d : Nat} {C : zO} (hG : zGk g) (hC : zSound l g d C) {args : List Value} {Q : zQ} {Y : zY} {σ : zS} (hw : zb504 (zpg g) C args Q Y σ) : zMet l g (d + 1) (⟨"PackingDuel$Outlook", "<init>", "(LPackingDuel$State;)V"⟩, Cond.code ⟨"PackingDuel$Outlook", "<init>", "(LPackingDuel$State;)V"⟩ prog_15_method_1_code 2 (Option.none : Option FieldType)) args σ Q Y := by
  obtain ⟨a0, x1, rfl, hw⟩ := hw
  refine zof hG (by decide +kernel) [false, false] ⟨rfl, (zc_rf _), trivial⟩ (Nat.le_of_ble_eq_true rfl) (ls := [some (va_rf (some a0)), some (va_rf x1)]) rfl ?_
  intro X hX hR hTb hd1 hd2 hl hg hnm
  subst hl
  subst hg
  have hd : zDep X d := ⟨hd1, hd2⟩
  refine z_aload_n hX dX20_init_0 rfl (i := 0) rfl ?_
  obtain ⟨a1, r2, hw⟩ := hw
  refine z_oinit hX hd dX20_init_1 q658 q191 q192 r2 rfl (zcs8 (Nat.le_of_ble_eq_true rfl)) ?_
  refine z_aload_n hX dX20_init_4 rfl (i := 0) rfl ?_
  refine z_aload_n hX dX20_init_5 rfl (i := 1) rfl ?_
  obtain ⟨a5, f6, r7, g8, m9, l10, hw⟩ := hw
  refine z_putF hX zc25 (k := 0) dX20_init_6 (Nat.le_of_ble_eq_true rfl) q661 rfl hnm rfl (zn_o _ _) (zf_o _ _) r7 g8 m9 l10 (z_nm (fun s3 e4 => ?_))
  have hw := hw s3 e4
  refine z_aload_n hX dX20_init_9 rfl (i := 0) rfl ?_
  refine z_iconst hX (v := (4 : Int32)) dX20_init_10 (by decide) ?_
  refine z_aload_n hX dX20_init_11 rfl (i := 1) rfl ?_
  obtain ⟨a14, f15, r16, m17, hw⟩ := hw
  refine z_invV hX hd r16 (ci := 1) rfl rfl m17 dX20_init_12 (hC 83 _ zm83 _ _ _ _ hw) q659 q352 q353 zh2 q354 q131 zn83 rfl (Nat.le_of_ble_eq_true rfl) (st := [.int (4 : Int32), va_rf (some a0)]) rfl (zcs8 (Nat.le_of_ble_eq_true rfl)) rfl (zkR (fun v11 s12 hw => ?_)) (zout hX hR hTb)
  obtain ⟨a21, f22, r23, m24, hw⟩ := hw
  refine z_invV hX hd r23 (ci := 14) rfl rfl m24 dX20_init_15 (hC 452 _ zm452 _ _ _ _ hw) q660 q396 q397 zh30 q398 q161 zn452 rfl (Nat.le_of_ble_eq_true rfl) (st := [.int (4 : Int32), va_rf (some a0)]) rfl (zcs8 (Nat.le_of_ble_eq_true rfl)) rfl (zkI (fun v18 s19 hw => ?_)) (zout hX hR hTb)
  refine z_imul hX dX20_init_18 ?_
  refine z_newI hX dX20_init_19 q394 hw.1 hw.2.1 hw.2.2.1 hw.2.2.2.1 (fun z26 => z_nm (fun s25 e27 => ?_))
  have hw := hw.2.2.2.2 z26 s25 e27
  obtain ⟨a30, f31, r32, g33, m34, l35, hw⟩ := hw
  refine z_putF hX zc25 (k := 1) dX20_init_21 (Nat.le_of_ble_eq_true rfl) q662 rfl hnm rfl (zn_a _ _) (zf_a _ _) r32 g33 m34 l35 (z_nm (fun s28 e29 => ?_))
  have hw := hw s28 e29
  refine z_aload_n hX dX20_init_24 rfl (i := 0) rfl ?_
  refine z_aload_n hX dX20_init_25 rfl (i := 0) rfl ?_
  obtain ⟨a37, f38, v36, r39, m40, e41, hw⟩ := hw
  refine z_get hX zc25 (k := 1) dX20_init_26 (Nat.le_of_ble_eq_true rfl) (zlk hX q662) r39 m40 e41 ?_
  obtain ⟨a42, n43, r44, m45, hw⟩ := hw
  refine z_alen hX 0 dX20_init_29 r44 m45 ?_
  revert hw
  generalize nI n43.1 = v46
  intro hw
  refine z_newZ hX dX20_init_30 q671 hw.1 hw.2.1 hw.2.2.1 hw.2.2.2.1 (fun z49 => z_nm (fun s48 e50 => ?_))
  have hw := hw.2.2.2.2 z49 s48 e50
  obtain ⟨a53, f54, r55, g56, m57, l58, hw⟩ := hw
  refine z_putF hX zc25 (k := 2) dX20_init_32 (Nat.le_of_ble_eq_true rfl) q663 rfl hnm rfl (zn_a _ _) (zf_a _ _) r55 g56 m57 l58 (z_nm (fun s51 e52 => ?_))
  have hw := hw s51 e52
  exact z_return hX hR dX20_init_35 hw
abbrev cX20_from : ByteArray := prog_15_method_5_code
def yX20_from : MethodName := ⟨RX20, "from", "(III)I"⟩
def dkwX20_from_2 : List UInt8 := [180, 0, 31, 21, 4, 4, 84, 42, 180, 0, 27, 21, 4, 46, 172]
abbrev dktX20_from_2 : List UInt8 := dkwX20_from_2 ++ []
def dkwX20_from_1 : List UInt8 := [180, 0, 31, 21, 4, 51, 154, 0, 25, 42, 180, 0, 27, 21, 4, 42, 27, 28, 29, 182, 0, 69, 79, 42]
abbrev dktX20_from_1 : List UInt8 := dkwX20_from_1 ++ dktX20_from_2
def dkwX20_from_0 : List UInt8 := [42, 27, 29, 182, 0, 66, 153, 0, 5, 3, 172, 7, 27, 104, 5, 28, 104, 96, 29, 96, 54, 4, 42]
abbrev dktX20_from_0 : List UInt8 := dkwX20_from_0 ++ dktX20_from_1
theorem dksX20_from_0 : cX20_from.data.toList.drop 0 = dktX20_from_0 := by decide +kernel
theorem dksX20_from_1 : cX20_from.data.toList.drop 23 = dktX20_from_1 := dk_seg dksX20_from_0 23 rfl rfl
theorem dksX20_from_2 : cX20_from.data.toList.drop 47 = dktX20_from_2 := dk_seg dksX20_from_1 24 rfl rfl
theorem dX20_from_0 : decode cX20_from 0 = .ok (.aload_n 0, 1) := dk_42 (dk_at dksX20_from_0 0 rfl rfl)
theorem dX20_from_1 : decode cX20_from 1 = .ok (.iload_n 1, 1) := dk_27 (dk_at dksX20_from_0 1 rfl rfl)
theorem dX20_from_2 : decode cX20_from 2 = .ok (.iload_n 3, 1) := dk_29 (dk_at dksX20_from_0 2 rfl rfl)
theorem dX20_from_3 : decode cX20_from 3 = .ok (.invokevirtual 66, 3) := dk_182 0 66 (dk_at dksX20_from_0 3 rfl rfl)
theorem dX20_from_6 : decode cX20_from 6 = .ok (.ifCond .eq 5, 3) := dk_153 0 5 (dk_at dksX20_from_0 6 rfl rfl)
theorem dX20_from_9 : decode cX20_from 9 = .ok (.iconst 0, 1) := dk_3 (dk_at dksX20_from_0 9 rfl rfl)
theorem dX20_from_10 : decode cX20_from 10 = .ok (.ireturn, 1) := dk_172 (dk_at dksX20_from_0 10 rfl rfl)
theorem dX20_from_11 : decode cX20_from 11 = .ok (.iconst 4, 1) := dk_7 (dk_at dksX20_from_0 11 rfl rfl)
theorem dX20_from_12 : decode cX20_from 12 = .ok (.iload_n 1, 1) := dk_27 (dk_at dksX20_from_0 12 rfl rfl)
theorem dX20_from_13 : decode cX20_from 13 = .ok (.imul, 1) := dk_104 (dk_at dksX20_from_0 13 rfl rfl)
theorem dX20_from_14 : decode cX20_from 14 = .ok (.iconst 2, 1) := dk_5 (dk_at dksX20_from_0 14 rfl rfl)
theorem dX20_from_15 : decode cX20_from 15 = .ok (.iload_n 2, 1) := dk_28 (dk_at dksX20_from_0 15 rfl rfl)
theorem dX20_from_16 : decode cX20_from 16 = .ok (.imul, 1) := dk_104 (dk_at dksX20_from_0 16 rfl rfl)
theorem dX20_from_17 : decode cX20_from 17 = .ok (.iadd, 1) := dk_96 (dk_at dksX20_from_0 17 rfl rfl)
theorem dX20_from_18 : decode cX20_from 18 = .ok (.iload_n 3, 1) := dk_29 (dk_at dksX20_from_0 18 rfl rfl)
theorem dX20_from_19 : decode cX20_from 19 = .ok (.iadd, 1) := dk_96 (dk_at dksX20_from_0 19 rfl rfl)
theorem dX20_from_20 : decode cX20_from 20 = .ok (.istore 4, 2) := dk_54 4 (dk_at dksX20_from_0 20 rfl rfl)
theorem dX20_from_22 : decode cX20_from 22 = .ok (.aload_n 0, 1) := dk_42 (dk_at dksX20_from_0 22 rfl rfl)
theorem dX20_from_23 : decode cX20_from 23 = .ok (.getfield 31, 3) := dk_180 0 31 (dk_at dksX20_from_1 0 rfl rfl)
theorem dX20_from_26 : decode cX20_from 26 = .ok (.iload 4, 2) := dk_21 4 (dk_at dksX20_from_1 3 rfl rfl)
theorem dX20_from_28 : decode cX20_from 28 = .ok (.baload, 1) := dk_51 (dk_at dksX20_from_1 5 rfl rfl)
theorem dX20_from_29 : decode cX20_from 29 = .ok (.ifCond .ne 25, 3) := dk_154 0 25 (dk_at dksX20_from_1 6 rfl rfl)
theorem dX20_from_32 : decode cX20_from 32 = .ok (.aload_n 0, 1) := dk_42 (dk_at dksX20_from_1 9 rfl rfl)
theorem dX20_from_33 : decode cX20_from 33 = .ok (.getfield 27, 3) := dk_180 0 27 (dk_at dksX20_from_1 10 rfl rfl)
theorem dX20_from_36 : decode cX20_from 36 = .ok (.iload 4, 2) := dk_21 4 (dk_at dksX20_from_1 13 rfl rfl)
theorem dX20_from_38 : decode cX20_from 38 = .ok (.aload_n 0, 1) := dk_42 (dk_at dksX20_from_1 15 rfl rfl)
theorem dX20_from_39 : decode cX20_from 39 = .ok (.iload_n 1, 1) := dk_27 (dk_at dksX20_from_1 16 rfl rfl)
theorem dX20_from_40 : decode cX20_from 40 = .ok (.iload_n 2, 1) := dk_28 (dk_at dksX20_from_1 17 rfl rfl)
theorem dX20_from_41 : decode cX20_from 41 = .ok (.iload_n 3, 1) := dk_29 (dk_at dksX20_from_1 18 rfl rfl)
theorem dX20_from_42 : decode cX20_from 42 = .ok (.invokevirtual 69, 3) := dk_182 0 69 (dk_at dksX20_from_1 19 rfl rfl)
theorem dX20_from_45 : decode cX20_from 45 = .ok (.iastore, 1) := dk_79 (dk_at dksX20_from_1 22 rfl rfl)
theorem dX20_from_46 : decode cX20_from 46 = .ok (.aload_n 0, 1) := dk_42 (dk_at dksX20_from_1 23 rfl rfl)
theorem dX20_from_47 : decode cX20_from 47 = .ok (.getfield 31, 3) := dk_180 0 31 (dk_at dksX20_from_2 0 rfl rfl)
theorem dX20_from_50 : decode cX20_from 50 = .ok (.iload 4, 2) := dk_21 4 (dk_at dksX20_from_2 3 rfl rfl)
theorem dX20_from_52 : decode cX20_from 52 = .ok (.iconst 1, 1) := dk_4 (dk_at dksX20_from_2 5 rfl rfl)
theorem dX20_from_53 : decode cX20_from 53 = .ok (.bastore, 1) := dk_84 (dk_at dksX20_from_2 6 rfl rfl)
theorem dX20_from_54 : decode cX20_from 54 = .ok (.aload_n 0, 1) := dk_42 (dk_at dksX20_from_2 7 rfl rfl)
theorem dX20_from_55 : decode cX20_from 55 = .ok (.getfield 27, 3) := dk_180 0 27 (dk_at dksX20_from_2 8 rfl rfl)
theorem dX20_from_58 : decode cX20_from 58 = .ok (.iload 4, 2) := dk_21 4 (dk_at dksX20_from_2 11 rfl rfl)
theorem dX20_from_60 : decode cX20_from 60 = .ok (.iaload, 1) := dk_46 (dk_at dksX20_from_2 13 rfl rfl)
theorem dX20_from_61 : decode cX20_from 61 = .ok (.ireturn, 1) := dk_172 (dk_at dksX20_from_2 14 rfl rfl)
/-- PackingDuel$Outlook.from(III)I -/
def zb505 (G : zPg) (C : zO) (args : List Value) (Q : zQ) (Y : zY) (σ : zS) : Prop := ∃ (a0 : Nat) (x1 : Int32) (x2 : Int32) (x3 : Int32), args = [.ref a0, .int x1, .int x2, .int x3] ∧ (zrc σ (some a0) 25 (fun a4 => zcl C 506 [.ref a4, .int x1, .int x3] Y σ (zqI (fun v1 s2 => ((v1 = 0) → (∀ v9 : Int32, v9 = ((((4 : Int32) * x1) + ((2 : Int32) * x2)) + x3) → zgR s2 (some a0) 25 2 (fun v11 => zaI s2 3 v11 v9 (fun v23 => zJ (fun  (s25 : zS) => zgR s25 (some a0) 25 1 (fun v27 => zaI s25 0 v27 v9 (fun v39 => Q (some (.int v39)) s25))) (fun (j26 : zS → Prop) => ((¬ v23 = 0) → j26 s2) ∧ ((v23 = 0) → zgR s2 (some a0) 25 1 (fun v42 => zrc s2 (some a0) 25 (fun a51 => zcl C 508 [.ref a51, .int x1, .int x2, .int x3] Y s2 (zqI (fun v48 s49 => zsI s49 G.1 0 v42 v9 v48 (fun s62 => zgR s62 (some a0) 25 2 (fun v64 => zsI s62 G.1 3 v64 v9 (vp_nar .boolean (1 : Int32)) (fun s77 => j26 s77))))))))))))) ∧ ((¬ v1 = 0) → Q (some (.int (0 : Int32))) s2)))))
set_option maxHeartbeats 4000000 in
theorem wk505 {l : Launch} {g : zG} {d : Nat} {C : zO} (hG : zGk g) (hC : zSound l g d C) {args : List Value} {Q : zQ} {Y : zY} {σ : zS} (hw : zb505 (zpg g) C args Q Y σ) : zMet l g (d + 1) (⟨"PackingDuel$Outlook", "from", "(III)I"⟩, Cond.code ⟨"PackingDuel$Outlook", "from", "(III)I"⟩ prog_15_method_5_code 5 (Option.some FieldType.int)) args σ Q Y := by
  obtain ⟨a0, x1, x2, x3, rfl, hw⟩ := hw
  refine zof hG (by decide +kernel) [false, false, false, false] ⟨rfl, rfl, rfl, rfl, trivial⟩ (Nat.le_of_ble_eq_true rfl) (ls := [some (va_rf (some a0)), some (.int x1), some (.int x2), some (.int x3), none]) rfl ?_
  intro X hX hR hTb hd1 hd2 hl hg hnm
  subst hl
  subst hg
  have hd : zDep X d := ⟨hd1, hd2⟩
  refine z_aload_n hX dX20_from_0 rfl (i := 0) rfl ?_
  refine z_iload_n hX dX20_from_1 rfl (i := 1) rfl ?_
  refine z_iload_n hX dX20_from_2 rfl (i := 3) rfl ?_
  obtain ⟨a4, f5, r6, m7, hw⟩ := hw
  refine z_invV hX hd r6 (ci := 25) rfl rfl m7 dX20_from_3 (hC 506 _ zm506 _ _ _ _ hw) q680 q681 q682 zh46 q683 q179 zn506 rfl (Nat.le_of_ble_eq_true rfl) (st := []) rfl (zcs8 (Nat.le_of_ble_eq_true rfl)) rfl (zkI (fun v1 s2 hw => ?_)) (zout hX hR hTb)
  refine z_if_eq hX dX20_from_6 (tgt := 11) rfl (fun c8 => ?_) (fun c8 => ?_)
  · have hw := hw.1 c8
    refine z_iconst hX (v := (4 : Int32)) dX20_from_11 (by decide) ?_
    refine z_iload_n hX dX20_from_12 rfl (i := 1) rfl ?_
    refine z_imul hX dX20_from_13 ?_
    refine z_iconst hX (v := (2 : Int32)) dX20_from_14 (by decide) ?_
    refine z_iload_n hX dX20_from_15 rfl (i := 2) rfl ?_
    refine z_imul hX dX20_from_16 ?_
    refine z_iadd hX dX20_from_17 ?_
    refine z_iload_n hX dX20_from_18 rfl (i := 3) rfl ?_
    refine z_iadd hX dX20_from_19 ?_
    refine z_topi (fun v9 e10 => ?_)
    have hw := hw v9 e10
    refine z_istore hX dX20_from_20 (i := 4) (Nat.le_of_ble_eq_true rfl) rfl (ls2 := [some (va_rf (some a0)), some (.int x1), some (.int x2), some (.int x3), some (.int v9)]) rfl ?_
    refine z_aload_n hX dX20_from_22 rfl (i := 0) rfl ?_
    obtain ⟨a12, f13, v11, r14, m15, e16, hw⟩ := hw
    refine z_get hX zc25 (k := 2) dX20_from_23 (Nat.le_of_ble_eq_true rfl) (zlk hX q663) r14 m15 e16 ?_
    refine z_iload hX dX20_from_26 (i := 4) rfl ?_
    obtain ⟨a17, n18, f19, r20, m21, i22, hw⟩ := hw
    refine z_zald hX dX20_from_28 r20 m21 i22 ?_
    revert hw
    generalize f19 (Int32.toNatClampNeg v9) = v23
    intro hw
    refine zJ_w (P := fun (j : zS → Prop) => ∀  (s25 : zS), j  s25 → zW X s25 54 [some (va_rf (some a0)), none, none, none, some (.int v9)] []) hw (fun  s25 hw => ?_) (fun j26 hj26 hw => ?_)
    · refine z_aload_n hX dX20_from_54 rfl (i := 0) rfl ?_
      obtain ⟨a28, f29, v27, r30, m31, e32, hw⟩ := hw
      refine z_get hX zc25 (k := 1) dX20_from_55 (Nat.le_of_ble_eq_true rfl) (zlk hX q662) r30 m31 e32 ?_
      refine z_iload hX dX20_from_58 (i := 4) rfl ?_
      obtain ⟨a33, n34, f35, r36, m37, i38, hw⟩ := hw
      refine z_iald hX dX20_from_60 r36 m37 i38 ?_
      revert hw
      generalize f35 (Int32.toNatClampNeg v9) = v39
      intro hw
      exact z_ireturn hX hR dX20_from_61 rfl hw
    · refine z_if_ne hX dX20_from_29 (tgt := 54) rfl (fun c41 => ?_) (fun c41 => ?_)
      · have hw := hw.1 c41
        refine z_sub (ls' := [some (va_rf (some a0)), none, none, none, some (.int v9)]) (zsS (zsN (zsN (zsN (zsS (zs0)))))) ?_
        exact hj26  _ hw
      · have hw := hw.2 c41
        refine z_aload_n hX dX20_from_32 rfl (i := 0) rfl ?_
        obtain ⟨a43, f44, v42, r45, m46, e47, hw⟩ := hw
        refine z_get hX zc25 (k := 1) dX20_from_33 (Nat.le_of_ble_eq_true rfl) (zlk hX q662) r45 m46 e47 ?_
        refine z_iload hX dX20_from_36 (i := 4) rfl ?_
        refine z_aload_n hX dX20_from_38 rfl (i := 0) rfl ?_
        refine z_iload_n hX dX20_from_39 rfl (i := 1) rfl ?_
        refine z_iload_n hX dX20_from_40 rfl (i := 2) rfl ?_
        refine z_iload_n hX dX20_from_41 rfl (i := 3) rfl ?_
        obtain ⟨a51, f52, r53, m54, hw⟩ := hw
        refine z_invV hX hd r53 (ci := 25) rfl rfl m54 dX20_from_42 (hC 508 _ zm508 _ _ _ _ hw) q692 q694 qs10 zh46 q695 q179 zn508 rfl (Nat.le_of_ble_eq_true rfl) (st := [.int v9, va_rf v42]) rfl (zcs8 (Nat.le_of_ble_eq_true rfl)) rfl (zkI (fun v48 s49 hw => ?_)) (zout hX hR hTb)
        obtain ⟨a55, n56, f57, r58, g59, m60, i61, hw⟩ := hw
        refine z_iast hX dX20_from_45 r58 g59 m60 i61 (z_nm (fun s62 e63 => ?_))
        have hw := hw s62 e63
        refine z_aload_n hX dX20_from_46 rfl (i := 0) rfl ?_
        obtain ⟨a65, f66, v64, r67, m68, e69, hw⟩ := hw
        refine z_get hX zc25 (k := 2) dX20_from_47 (Nat.le_of_ble_eq_true rfl) (zlk hX q663) r67 m68 e69 ?_
        refine z_iload hX dX20_from_50 (i := 4) rfl ?_
        refine z_iconst hX (v := (1 : Int32)) dX20_from_52 (by decide) ?_
        obtain ⟨a70, n71, f72, r73, g74, m75, i76, hw⟩ := hw
        refine z_zast hX dX20_from_53 r73 g74 m75 i76 (z_nm (fun s77 e78 => ?_))
        have hw := hw s77 e78
        refine z_sub (ls' := [some (va_rf (some a0)), none, none, none, some (.int v9)]) (zsS (zsN (zsN (zsN (zsS (zs0)))))) ?_
        exact hj26  _ hw
  · have hw := hw.2 c8
    refine z_iconst hX (v := (0 : Int32)) dX20_from_9 (by decide) ?_
    exact z_ireturn hX hR dX20_from_10 rfl hw
abbrev cX20_isOver : ByteArray := prog_15_method_3_code
def yX20_isOver : MethodName := ⟨RX20, "isOver", "(II)Z"⟩
def dkwX20_isOver_2 : List UInt8 := [3, 172, 132, 3, 1, 167, 255, 212, 4, 172]
abbrev dktX20_isOver_2 : List UInt8 := dkwX20_isOver_2 ++ []
def dkwX20_isOver_1 : List UInt8 := [29, 184, 0, 52, 154, 0, 22, 42, 180, 0, 9, 29, 3, 182, 0, 56, 42, 27, 182, 0, 60, 163, 0, 5]
abbrev dktX20_isOver_1 : List UInt8 := dkwX20_isOver_1 ++ dktX20_isOver_2
def dkwX20_isOver_0 : List UInt8 := [28, 5, 160, 0, 5, 4, 172, 3, 62, 29, 42, 180, 0, 9, 180, 0, 43, 182, 0, 47, 162, 0, 36, 27]
abbrev dktX20_isOver_0 : List UInt8 := dkwX20_isOver_0 ++ dktX20_isOver_1
theorem dksX20_isOver_0 : cX20_isOver.data.toList.drop 0 = dktX20_isOver_0 := by decide +kernel
theorem dksX20_isOver_1 : cX20_isOver.data.toList.drop 24 = dktX20_isOver_1 := dk_seg dksX20_isOver_0 24 rfl rfl
theorem dksX20_isOver_2 : cX20_isOver.data.toList.drop 48 = dktX20_isOver_2 := dk_seg dksX20_isOver_1 24 rfl rfl
theorem dX20_isOver_0 : decode cX20_isOver 0 = .ok (.iload_n 2, 1) := dk_28 (dk_at dksX20_isOver_0 0 rfl rfl)
theorem dX20_isOver_1 : decode cX20_isOver 1 = .ok (.iconst 2, 1) := dk_5 (dk_at dksX20_isOver_0 1 rfl rfl)
theorem dX20_isOver_2 : decode cX20_isOver 2 = .ok (.if_icmp .ne 5, 3) := dk_160 0 5 (dk_at dksX20_isOver_0 2 rfl rfl)
theorem dX20_isOver_5 : decode cX20_isOver 5 = .ok (.iconst 1, 1) := dk_4 (dk_at dksX20_isOver_0 5 rfl rfl)
theorem dX20_isOver_6 : decode cX20_isOver 6 = .ok (.ireturn, 1) := dk_172 (dk_at dksX20_isOver_0 6 rfl rfl)
theorem dX20_isOver_7 : decode cX20_isOver 7 = .ok (.iconst 0, 1) := dk_3 (dk_at dksX20_isOver_0 7 rfl rfl)
theorem dX20_isOver_8 : decode cX20_isOver 8 = .ok (.istore_n 3, 1) := dk_62 (dk_at dksX20_isOver_0 8 rfl rfl)
theorem dX20_isOver_9 : decode cX20_isOver 9 = .ok (.iload_n 3, 1) := dk_29 (dk_at dksX20_isOver_0 9 rfl rfl)
theorem dX20_isOver_10 : decode cX20_isOver 10 = .ok (.aload_n 0, 1) := dk_42 (dk_at dksX20_isOver_0 10 rfl rfl)
theorem dX20_isOver_11 : decode cX20_isOver 11 = .ok (.getfield 9, 3) := dk_180 0 9 (dk_at dksX20_isOver_0 11 rfl rfl)
theorem dX20_isOver_14 : decode cX20_isOver 14 = .ok (.getfield 43, 3) := dk_180 0 43 (dk_at dksX20_isOver_0 14 rfl rfl)
theorem dX20_isOver_17 : decode cX20_isOver 17 = .ok (.invokevirtual 47, 3) := dk_182 0 47 (dk_at dksX20_isOver_0 17 rfl rfl)
theorem dX20_isOver_20 : decode cX20_isOver 20 = .ok (.if_icmp .ge 36, 3) := dk_162 0 36 (dk_at dksX20_isOver_0 20 rfl rfl)
theorem dX20_isOver_23 : decode cX20_isOver 23 = .ok (.iload_n 1, 1) := dk_27 (dk_at dksX20_isOver_0 23 rfl rfl)
theorem dX20_isOver_24 : decode cX20_isOver 24 = .ok (.iload_n 3, 1) := dk_29 (dk_at dksX20_isOver_1 0 rfl rfl)
theorem dX20_isOver_25 : decode cX20_isOver 25 = .ok (.invokestatic 52, 3) := dk_184 0 52 (dk_at dksX20_isOver_1 1 rfl rfl)
theorem dX20_isOver_28 : decode cX20_isOver 28 = .ok (.ifCond .ne 22, 3) := dk_154 0 22 (dk_at dksX20_isOver_1 4 rfl rfl)
theorem dX20_isOver_31 : decode cX20_isOver 31 = .ok (.aload_n 0, 1) := dk_42 (dk_at dksX20_isOver_1 7 rfl rfl)
theorem dX20_isOver_32 : decode cX20_isOver 32 = .ok (.getfield 9, 3) := dk_180 0 9 (dk_at dksX20_isOver_1 8 rfl rfl)
theorem dX20_isOver_35 : decode cX20_isOver 35 = .ok (.iload_n 3, 1) := dk_29 (dk_at dksX20_isOver_1 11 rfl rfl)
theorem dX20_isOver_36 : decode cX20_isOver 36 = .ok (.iconst 0, 1) := dk_3 (dk_at dksX20_isOver_1 12 rfl rfl)
theorem dX20_isOver_37 : decode cX20_isOver 37 = .ok (.invokevirtual 56, 3) := dk_182 0 56 (dk_at dksX20_isOver_1 13 rfl rfl)
theorem dX20_isOver_40 : decode cX20_isOver 40 = .ok (.aload_n 0, 1) := dk_42 (dk_at dksX20_isOver_1 16 rfl rfl)
theorem dX20_isOver_41 : decode cX20_isOver 41 = .ok (.iload_n 1, 1) := dk_27 (dk_at dksX20_isOver_1 17 rfl rfl)
theorem dX20_isOver_42 : decode cX20_isOver 42 = .ok (.invokevirtual 60, 3) := dk_182 0 60 (dk_at dksX20_isOver_1 18 rfl rfl)
theorem dX20_isOver_45 : decode cX20_isOver 45 = .ok (.if_icmp .gt 5, 3) := dk_163 0 5 (dk_at dksX20_isOver_1 21 rfl rfl)
theorem dX20_isOver_48 : decode cX20_isOver 48 = .ok (.iconst 0, 1) := dk_3 (dk_at dksX20_isOver_2 0 rfl rfl)
theorem dX20_isOver_49 : decode cX20_isOver 49 = .ok (.ireturn, 1) := dk_172 (dk_at dksX20_isOver_2 1 rfl rfl)
theorem dX20_isOver_50 : decode cX20_isOver 50 = .ok (.iinc 3 1, 3) := dk_132 3 1 (dk_at dksX20_isOver_2 2 rfl rfl)
theorem dX20_isOver_53 : decode cX20_isOver 53 = .ok (.goto (-44), 3) := dk_167 255 212 (dk_at dksX20_isOver_2 5 rfl rfl)
theorem dX20_isOver_56 : decode cX20_isOver 56 = .ok (.iconst 1, 1) := dk_4 (dk_at dksX20_isOver_2 8 rfl rfl)
theorem dX20_isOver_57 : decode cX20_isOver 57 = .ok (.ireturn, 1) := dk_172 (dk_at dksX20_isOver_2 9 rfl rfl)
/-- PackingDuel$Outlook.isOver(II)Z -/
def zb506 (G : zPg) (C : zO) (args : List Value) (Q : zQ) (Y : zY) (σ : zS) : Prop := ∃ (a0 : Nat) (x1 : Int32) (x2 : Int32), args = [.ref a0, .int x1, .int x2] ∧ (((¬ x2 = (2 : Int32)) → ∃ n, zIt (fun _ _ => False) (fun rec4 (p2 : Int32) (s3 : zS) => zgR s3 (some a0) 25 0 (fun v5 => zgR s3 v5 1 0 (fun v11 => zrc s3 v11 2 (fun a20 => zcl C 128 [.ref a20] Y s3 (zqI (fun v17 s18 => ((v17 ≤ p2) → zbool (1 : Int32) ∧ Q (some (.int (1 : Int32))) s18) ∧ ((¬ v17 ≤ p2) → zcl C 31 [.int x1, .int p2] Y s18 (zqI (fun v25 s26 => zJ (fun  (s28 : zS) => (∀ v30 : Int32, v30 = p2 + (1 : Int32) → rec4 v30 s28)) (fun (j29 : zS → Prop) => ((¬ v25 = 0) → j29 s26) ∧ ((v25 = 0) → zgR s26 (some a0) 25 0 (fun v33 => zrc s26 v33 1 (fun a42 => zcl C 94 [.ref a42, .int p2, .int (0 : Int32)] Y s26 (zqI (fun v39 s40 => zrc s40 (some a0) 25 (fun a49 => zcl C 507 [.ref a49, .int x1] Y s40 (zqI (fun v46 s47 => ((v46 < v39) → j29 s47) ∧ ((¬ v46 < v39) → zbool (0 : Int32) ∧ Q (some (.int (0 : Int32))) s47))))))))))))))))))) n (0 : Int32) σ) ∧ ((x2 = (2 : Int32)) → zbool (1 : Int32) ∧ Q (some (.int (1 : Int32))) σ))
set_option maxHeartbeats 4000000 in
theorem wk506 {l : Launch} {g : zG} {d : Nat} {C : zO} (hG : zGk g) (hC : zSound l g d C) {args : List Value} {Q : zQ} {Y : zY} {σ : zS} (hw : zb506 (zpg g) C args Q Y σ) : zMet l g (d + 1) (⟨"PackingDuel$Outlook", "isOver", "(II)Z"⟩, Cond.code ⟨"PackingDuel$Outlook", "isOver", "(II)Z"⟩ prog_15_method_3_code 4 (Option.some FieldType.boolean)) args σ Q Y := by
  obtain ⟨a0, x1, x2, rfl, hw⟩ := hw
  refine zof hG (by decide +kernel) [false, false, false] ⟨rfl, rfl, rfl, trivial⟩ (Nat.le_of_ble_eq_true rfl) (ls := [some (va_rf (some a0)), some (.int x1), some (.int x2), none]) rfl ?_
  intro X hX hR hTb hd1 hd2 hl hg hnm
  subst hl
  subst hg
  have hd : zDep X d := ⟨hd1, hd2⟩
  refine z_iload_n hX dX20_isOver_0 rfl (i := 2) rfl ?_
  refine z_iconst hX (v := (2 : Int32)) dX20_isOver_1 (by decide) ?_
  refine z_icmp_ne hX dX20_isOver_2 (tgt := 7) rfl (fun c1 => ?_) (fun c1 => ?_)
  · have hw := hw.1 c1
    refine z_iconst hX (v := (0 : Int32)) dX20_isOver_7 (by decide) ?_
    refine z_istore_n hX dX20_isOver_8 rfl (i := 3) (Nat.le_of_ble_eq_true rfl) rfl (ls2 := [some (va_rf (some a0)), some (.int x1), some (.int x2), some (.int (0 : Int32))]) rfl ?_
    obtain ⟨n54, hw⟩ := hw
    refine z_sub (ls' := [some (va_rf (some a0)), some (.int x1), none, some (.int (0 : Int32))]) (zsS (zsS (zsN (zsS (zs0))))) ?_
    refine zIt_w (P := fun (j : Int32 → zS → Prop) => ∀ (p2 : Int32) (s3 : zS), j p2 s3 → zW X s3 9 [some (va_rf (some a0)), some (.int x1), none, some (.int p2)] []) (fun _ _ h => h.elim) (fun rec4 hrec4 p2 s3 hw => ?_) n54 _ _ hw
    refine z_iload_n hX dX20_isOver_9 rfl (i := 3) rfl ?_
    refine z_aload_n hX dX20_isOver_10 rfl (i := 0) rfl ?_
    obtain ⟨a6, f7, v5, r8, m9, e10, hw⟩ := hw
    refine z_get hX zc25 (k := 0) dX20_isOver_11 (Nat.le_of_ble_eq_true rfl) (zlk hX q661) r8 m9 e10 ?_
    obtain ⟨a12, f13, v11, r14, m15, e16, hw⟩ := hw
    refine z_get hX zc1 (k := 0) dX20_isOver_14 (Nat.le_of_ble_eq_true rfl) (zlkN hX "PackingDuel" q227) r14 m15 e16 ?_
    obtain ⟨a20, f21, r22, m23, hw⟩ := hw
    refine z_invV hX hd r22 (ci := 2) rfl rfl m23 dX20_isOver_17 (hC 128 _ zm128 _ _ _ _ hw) q684 q362 q363 zh5 q364 q134 zn128 rfl (Nat.le_of_ble_eq_true rfl) (st := [.int p2]) rfl (zcs8 (Nat.le_of_ble_eq_true rfl)) rfl (zkI (fun v17 s18 hw => ?_)) (zout hX hR hTb)
    refine z_icmp_ge hX dX20_isOver_20 (tgt := 56) rfl (fun c24 => ?_) (fun c24 => ?_)
    · have hw := hw.1 c24
      refine z_iconst hX (v := (1 : Int32)) dX20_isOver_56 (by decide) ?_
      exact z_ireturn hX hR dX20_isOver_57 (zn_z hw.1) hw.2
    · have hw := hw.2 c24
      refine z_iload_n hX dX20_isOver_23 rfl (i := 1) rfl ?_
      refine z_iload_n hX dX20_isOver_24 rfl (i := 3) rfl ?_
      refine z_invSN hX hd dX20_isOver_25 (hC 31 _ zm31 _ _ _ _ hw) q685 q523 zh1 q524 q130 zn31 rfl (Nat.le_of_ble_eq_true rfl) (st := []) rfl (zcs8 (Nat.le_of_ble_eq_true rfl)) rfl (zkI (fun v25 s26 hw => ?_)) (zout hX hR hTb)
      refine zJ_w (P := fun (j : zS → Prop) => ∀  (s28 : zS), j  s28 → zW X s28 50 [some (va_rf (some a0)), some (.int x1), none, some (.int p2)] []) hw (fun  s28 hw => ?_) (fun j29 hj29 hw => ?_)
      · obtain ⟨v30, e31⟩ : ∃ y : Int32, y = p2 + (1 : Int32) := ⟨_, rfl⟩
        refine z_iinc hX dX20_isOver_50 (i := 3) (v := v30) rfl (by rw [e31]; rfl) (Nat.le_of_ble_eq_true rfl) trivial (ls2 := [some (va_rf (some a0)), some (.int x1), none, some (.int v30)]) rfl ?_
        have hw := hw v30 e31
        refine z_goto hX dX20_isOver_53 (tgt := 9) rfl ?_
        exact hrec4 _ _ hw
      · refine z_if_ne hX dX20_isOver_28 (tgt := 50) rfl (fun c32 => ?_) (fun c32 => ?_)
        · have hw := hw.1 c32
          exact hj29  _ hw
        · have hw := hw.2 c32
          refine z_aload_n hX dX20_isOver_31 rfl (i := 0) rfl ?_
          obtain ⟨a34, f35, v33, r36, m37, e38, hw⟩ := hw
          refine z_get hX zc25 (k := 0) dX20_isOver_32 (Nat.le_of_ble_eq_true rfl) (zlk hX q661) r36 m37 e38 ?_
          refine z_iload_n hX dX20_isOver_35 rfl (i := 3) rfl ?_
          refine z_iconst hX (v := (0 : Int32)) dX20_isOver_36 (by decide) ?_
          obtain ⟨a42, f43, r44, m45, hw⟩ := hw
          refine z_invV hX hd r44 (ci := 1) rfl rfl m45 dX20_isOver_37 (hC 94 _ zm94 _ _ _ _ hw) q686 q526 q527 zh2 q528 q131 zn94 rfl (Nat.le_of_ble_eq_true rfl) (st := []) rfl (zcs8 (Nat.le_of_ble_eq_true rfl)) rfl (zkI (fun v39 s40 hw => ?_)) (zout hX hR hTb)
          refine z_aload_n hX dX20_isOver_40 rfl (i := 0) rfl ?_
          refine z_iload_n hX dX20_isOver_41 rfl (i := 1) rfl ?_
          obtain ⟨a49, f50, r51, m52, hw⟩ := hw
          refine z_invV hX hd r51 (ci := 25) rfl rfl m52 dX20_isOver_42 (hC 507 _ zm507 _ _ _ _ hw) q687 q689 qs9 zh46 q690 q179 zn507 rfl (Nat.le_of_ble_eq_true rfl) (st := [.int v39]) rfl (zcs8 (Nat.le_of_ble_eq_true rfl)) rfl (zkI (fun v46 s47 hw => ?_)) (zout hX hR hTb)
          refine z_icmp_gt hX dX20_isOver_45 (tgt := 50) rfl (fun c53 => ?_) (fun c53 => ?_)
          · have hw := hw.1 c53
            exact hj29  _ hw
          · have hw := hw.2 c53
            refine z_iconst hX (v := (0 : Int32)) dX20_isOver_48 (by decide) ?_
            exact z_ireturn hX hR dX20_isOver_49 (zn_z hw.1) hw.2
  · have hw := hw.2 c1
    refine z_iconst hX (v := (1 : Int32)) dX20_isOver_5 (by decide) ?_
    exact z_ireturn hX hR dX20_isOver_6 (zn_z hw.1) hw.2
abbrev cX20_rest : ByteArray := prog_15_method_2_code
def yX20_rest : MethodName := ⟨RX20, "rest", "(I)I"⟩
def dkwX20_rest_0 : List UInt8 := [42, 180, 0, 9, 180, 0, 35, 42, 180, 0, 9, 182, 0, 15, 27, 182, 0, 39, 100, 172]
abbrev dktX20_rest_0 : List UInt8 := dkwX20_rest_0 ++ []
theorem dksX20_rest_0 : cX20_rest.data.toList.drop 0 = dktX20_rest_0 := by decide +kernel
theorem dX20_rest_0 : decode cX20_rest 0 = .ok (.aload_n 0, 1) := dk_42 (dk_at dksX20_rest_0 0 rfl rfl)
theorem dX20_rest_1 : decode cX20_rest 1 = .ok (.getfield 9, 3) := dk_180 0 9 (dk_at dksX20_rest_0 1 rfl rfl)
theorem dX20_rest_4 : decode cX20_rest 4 = .ok (.getfield 35, 3) := dk_180 0 35 (dk_at dksX20_rest_0 4 rfl rfl)
theorem dX20_rest_7 : decode cX20_rest 7 = .ok (.aload_n 0, 1) := dk_42 (dk_at dksX20_rest_0 7 rfl rfl)
theorem dX20_rest_8 : decode cX20_rest 8 = .ok (.getfield 9, 3) := dk_180 0 9 (dk_at dksX20_rest_0 8 rfl rfl)
theorem dX20_rest_11 : decode cX20_rest 11 = .ok (.invokevirtual 15, 3) := dk_182 0 15 (dk_at dksX20_rest_0 11 rfl rfl)
theorem dX20_rest_14 : decode cX20_rest 14 = .ok (.iload_n 1, 1) := dk_27 (dk_at dksX20_rest_0 14 rfl rfl)
theorem dX20_rest_15 : decode cX20_rest 15 = .ok (.invokevirtual 39, 3) := dk_182 0 39 (dk_at dksX20_rest_0 15 rfl rfl)
theorem dX20_rest_18 : decode cX20_rest 18 = .ok (.isub, 1) := dk_100 (dk_at dksX20_rest_0 18 rfl rfl)
theorem dX20_rest_19 : decode cX20_rest 19 = .ok (.ireturn, 1) := dk_172 (dk_at dksX20_rest_0 19 rfl rfl)
/-- PackingDuel$Outlook.rest(I)I -/
def zb507 (G : zPg) (C : zO) (args : List Value) (Q : zQ) (Y : zY) (σ : zS) : Prop := ∃ (a0 : Nat) (x1 : Int32), args = [.ref a0, .int x1] ∧ (zgR σ (some a0) 25 0 (fun v1 => zgI σ v1 1 3 (fun v7 => zgR σ (some a0) 25 0 (fun v13 => zrc σ v13 1 (fun a22 => zcl C 83 [.ref a22] Y σ (zqR (fun v19 s20 => zrc s20 v19 14 (fun a29 => zcl C 453 [.ref a29, .int x1] Y s20 (zqI (fun v26 s27 => Q (some (.int (v7 - v26))) s27))))))))))
set_option maxHeartbeats 4000000 in
theorem wk507 {l : Launch} {g : zG} {d : Nat} {C : zO} (hG : zGk g) (hC : zSound l g d C) {args : List Value} {Q : zQ} {Y : zY} {σ : zS} (hw : zb507 (zpg g) C args Q Y σ) : zMet l g (d + 1) (⟨"PackingDuel$Outlook", "rest", "(I)I"⟩, Cond.code ⟨"PackingDuel$Outlook", "rest", "(I)I"⟩ prog_15_method_2_code 2 (Option.some FieldType.int)) args σ Q Y := by
  obtain ⟨a0, x1, rfl, hw⟩ := hw
  refine zof hG (by decide +kernel) [false, false] ⟨rfl, rfl, trivial⟩ (Nat.le_of_ble_eq_true rfl) (ls := [some (va_rf (some a0)), some (.int x1)]) rfl ?_
  intro X hX hR hTb hd1 hd2 hl hg hnm
  subst hl
  subst hg
  have hd : zDep X d := ⟨hd1, hd2⟩
  refine z_aload_n hX dX20_rest_0 rfl (i := 0) rfl ?_
  obtain ⟨a2, f3, v1, r4, m5, e6, hw⟩ := hw
  refine z_get hX zc25 (k := 0) dX20_rest_1 (Nat.le_of_ble_eq_true rfl) (zlk hX q661) r4 m5 e6 ?_
  obtain ⟨a8, f9, v7, r10, m11, e12, hw⟩ := hw
  refine z_get hX zc1 (k := 3) dX20_rest_4 (Nat.le_of_ble_eq_true rfl) (zlkN hX "PackingDuel" q233) r10 m11 e12 ?_
  refine z_aload_n hX dX20_rest_7 rfl (i := 0) rfl ?_
  obtain ⟨a14, f15, v13, r16, m17, e18, hw⟩ := hw
  refine z_get hX zc25 (k := 0) dX20_rest_8 (Nat.le_of_ble_eq_true rfl) (zlk hX q661) r16 m17 e18 ?_
  obtain ⟨a22, f23, r24, m25, hw⟩ := hw
  refine z_invV hX hd r24 (ci := 1) rfl rfl m25 dX20_rest_11 (hC 83 _ zm83 _ _ _ _ hw) q659 q352 q353 zh2 q354 q131 zn83 rfl (Nat.le_of_ble_eq_true rfl) (st := [.int v7]) rfl (zcs8 (Nat.le_of_ble_eq_true rfl)) rfl (zkR (fun v19 s20 hw => ?_)) (zout hX hR hTb)
  refine z_iload_n hX dX20_rest_14 rfl (i := 1) rfl ?_
  obtain ⟨a29, f30, r31, m32, hw⟩ := hw
  refine z_invV hX hd r31 (ci := 14) rfl rfl m32 dX20_rest_15 (hC 453 _ zm453 _ _ _ _ hw) q691 q404 q405 zh30 q406 q161 zn453 rfl (Nat.le_of_ble_eq_true rfl) (st := [.int v7]) rfl (zcs8 (Nat.le_of_ble_eq_true rfl)) rfl (zkI (fun v26 s27 hw => ?_)) (zout hX hR hTb)
  refine z_isub hX dX20_rest_18 ?_
  exact z_ireturn hX hR dX20_rest_19 rfl hw
abbrev cX20_find : ByteArray := prog_15_method_8_code
def yX20_find : MethodName := ⟨RX20, "find", "(III)I"⟩
def dkwX20_find_3 : List UInt8 := [184, 0, 90, 54, 4, 132, 5, 1, 167, 255, 191, 21, 4, 172]
abbrev dktX20_find_3 : List UInt8 := dkwX20_find_3 ++ []
def dkwX20_find_2 : List UInt8 := [182, 0, 82, 54, 6, 28, 154, 0, 13, 21, 4, 21, 6, 184, 0, 85, 167, 0, 10, 21, 4, 21, 6]
abbrev dktX20_find_2 : List UInt8 := dkwX20_find_2 ++ dktX20_find_3
def dkwX20_find_1 : List UInt8 := [162, 0, 56, 42, 27, 28, 21, 5, 182, 0, 79, 153, 0, 6, 167, 0, 36, 42, 27, 28, 21, 5]
abbrev dktX20_find_1 : List UInt8 := dkwX20_find_1 ++ dktX20_find_2
def dkwX20_find_0 : List UInt8 := [42, 27, 28, 29, 182, 0, 76, 54, 4, 3, 54, 5, 21, 5, 42, 180, 0, 9, 180, 0, 43, 182, 0, 47]
abbrev dktX20_find_0 : List UInt8 := dkwX20_find_0 ++ dktX20_find_1
theorem dksX20_find_0 : cX20_find.data.toList.drop 0 = dktX20_find_0 := by decide +kernel
theorem dksX20_find_1 : cX20_find.data.toList.drop 24 = dktX20_find_1 := dk_seg dksX20_find_0 24 rfl rfl
theorem dksX20_find_2 : cX20_find.data.toList.drop 46 = dktX20_find_2 := dk_seg dksX20_find_1 22 rfl rfl
theorem dksX20_find_3 : cX20_find.data.toList.drop 69 = dktX20_find_3 := dk_seg dksX20_find_2 23 rfl rfl
theorem dX20_find_0 : decode cX20_find 0 = .ok (.aload_n 0, 1) := dk_42 (dk_at dksX20_find_0 0 rfl rfl)
theorem dX20_find_1 : decode cX20_find 1 = .ok (.iload_n 1, 1) := dk_27 (dk_at dksX20_find_0 1 rfl rfl)
theorem dX20_find_2 : decode cX20_find 2 = .ok (.iload_n 2, 1) := dk_28 (dk_at dksX20_find_0 2 rfl rfl)
theorem dX20_find_3 : decode cX20_find 3 = .ok (.iload_n 3, 1) := dk_29 (dk_at dksX20_find_0 3 rfl rfl)
theorem dX20_find_4 : decode cX20_find 4 = .ok (.invokevirtual 76, 3) := dk_182 0 76 (dk_at dksX20_find_0 4 rfl rfl)
theorem dX20_find_7 : decode cX20_find 7 = .ok (.istore 4, 2) := dk_54 4 (dk_at dksX20_find_0 7 rfl rfl)
theorem dX20_find_9 : decode cX20_find 9 = .ok (.iconst 0, 1) := dk_3 (dk_at dksX20_find_0 9 rfl rfl)
theorem dX20_find_10 : decode cX20_find 10 = .ok (.istore 5, 2) := dk_54 5 (dk_at dksX20_find_0 10 rfl rfl)
theorem dX20_find_12 : decode cX20_find 12 = .ok (.iload 5, 2) := dk_21 5 (dk_at dksX20_find_0 12 rfl rfl)
theorem dX20_find_14 : decode cX20_find 14 = .ok (.aload_n 0, 1) := dk_42 (dk_at dksX20_find_0 14 rfl rfl)
theorem dX20_find_15 : decode cX20_find 15 = .ok (.getfield 9, 3) := dk_180 0 9 (dk_at dksX20_find_0 15 rfl rfl)
theorem dX20_find_18 : decode cX20_find 18 = .ok (.getfield 43, 3) := dk_180 0 43 (dk_at dksX20_find_0 18 rfl rfl)
theorem dX20_find_21 : decode cX20_find 21 = .ok (.invokevirtual 47, 3) := dk_182 0 47 (dk_at dksX20_find_0 21 rfl rfl)
theorem dX20_find_24 : decode cX20_find 24 = .ok (.if_icmp .ge 56, 3) := dk_162 0 56 (dk_at dksX20_find_1 0 rfl rfl)
theorem dX20_find_27 : decode cX20_find 27 = .ok (.aload_n 0, 1) := dk_42 (dk_at dksX20_find_1 3 rfl rfl)
theorem dX20_find_28 : decode cX20_find 28 = .ok (.iload_n 1, 1) := dk_27 (dk_at dksX20_find_1 4 rfl rfl)
theorem dX20_find_29 : decode cX20_find 29 = .ok (.iload_n 2, 1) := dk_28 (dk_at dksX20_find_1 5 rfl rfl)
theorem dX20_find_30 : decode cX20_find 30 = .ok (.iload 5, 2) := dk_21 5 (dk_at dksX20_find_1 6 rfl rfl)
theorem dX20_find_32 : decode cX20_find 32 = .ok (.invokevirtual 79, 3) := dk_182 0 79 (dk_at dksX20_find_1 8 rfl rfl)
theorem dX20_find_35 : decode cX20_find 35 = .ok (.ifCond .eq 6, 3) := dk_153 0 6 (dk_at dksX20_find_1 11 rfl rfl)
theorem dX20_find_38 : decode cX20_find 38 = .ok (.goto 36, 3) := dk_167 0 36 (dk_at dksX20_find_1 14 rfl rfl)
theorem dX20_find_41 : decode cX20_find 41 = .ok (.aload_n 0, 1) := dk_42 (dk_at dksX20_find_1 17 rfl rfl)
theorem dX20_find_42 : decode cX20_find 42 = .ok (.iload_n 1, 1) := dk_27 (dk_at dksX20_find_1 18 rfl rfl)
theorem dX20_find_43 : decode cX20_find 43 = .ok (.iload_n 2, 1) := dk_28 (dk_at dksX20_find_1 19 rfl rfl)
theorem dX20_find_44 : decode cX20_find 44 = .ok (.iload 5, 2) := dk_21 5 (dk_at dksX20_find_1 20 rfl rfl)
theorem dX20_find_46 : decode cX20_find 46 = .ok (.invokevirtual 82, 3) := dk_182 0 82 (dk_at dksX20_find_2 0 rfl rfl)
theorem dX20_find_49 : decode cX20_find 49 = .ok (.istore 6, 2) := dk_54 6 (dk_at dksX20_find_2 3 rfl rfl)
theorem dX20_find_51 : decode cX20_find 51 = .ok (.iload_n 2, 1) := dk_28 (dk_at dksX20_find_2 5 rfl rfl)
theorem dX20_find_52 : decode cX20_find 52 = .ok (.ifCond .ne 13, 3) := dk_154 0 13 (dk_at dksX20_find_2 6 rfl rfl)
theorem dX20_find_55 : decode cX20_find 55 = .ok (.iload 4, 2) := dk_21 4 (dk_at dksX20_find_2 9 rfl rfl)
theorem dX20_find_57 : decode cX20_find 57 = .ok (.iload 6, 2) := dk_21 6 (dk_at dksX20_find_2 11 rfl rfl)
theorem dX20_find_59 : decode cX20_find 59 = .ok (.invokestatic 85, 3) := dk_184 0 85 (dk_at dksX20_find_2 13 rfl rfl)
theorem dX20_find_62 : decode cX20_find 62 = .ok (.goto 10, 3) := dk_167 0 10 (dk_at dksX20_find_2 16 rfl rfl)
theorem dX20_find_65 : decode cX20_find 65 = .ok (.iload 4, 2) := dk_21 4 (dk_at dksX20_find_2 19 rfl rfl)
theorem dX20_find_67 : decode cX20_find 67 = .ok (.iload 6, 2) := dk_21 6 (dk_at dksX20_find_2 21 rfl rfl)
theorem dX20_find_69 : decode cX20_find 69 = .ok (.invokestatic 90, 3) := dk_184 0 90 (dk_at dksX20_find_3 0 rfl rfl)
theorem dX20_find_72 : decode cX20_find 72 = .ok (.istore 4, 2) := dk_54 4 (dk_at dksX20_find_3 3 rfl rfl)
theorem dX20_find_74 : decode cX20_find 74 = .ok (.iinc 5 1, 3) := dk_132 5 1 (dk_at dksX20_find_3 5 rfl rfl)
theorem dX20_find_77 : decode cX20_find 77 = .ok (.goto (-65), 3) := dk_167 255 191 (dk_at dksX20_find_3 8 rfl rfl)
theorem dX20_find_80 : decode cX20_find 80 = .ok (.iload 4, 2) := dk_21 4 (dk_at dksX20_find_3 11 rfl rfl)
theorem dX20_find_82 : decode cX20_find 82 = .ok (.ireturn, 1) := dk_172 (dk_at dksX20_find_3 13 rfl rfl)
/-- PackingDuel$Outlook.find(III)I -/
def zb508 (G : zPg) (C : zO) (args : List Value) (Q : zQ) (Y : zY) (σ : zS) : Prop := ∃ (a0 : Nat) (x1 : Int32) (x2 : Int32) (x3 : Int32), args = [.ref a0, .int x1, .int x2, .int x3] ∧ (zrc σ (some a0) 25 (fun a4 => zcl C 509 [.ref a4, .int x1, .int x2, .int x3] Y σ (zqI (fun v1 s2 => ∃ n, zIt (fun _ _ _ => False) (fun rec11 (p8 : Int32) (p9 : Int32) (s10 : zS) => zgR s10 (some a0) 25 0 (fun v12 => zgR s10 v12 1 0 (fun v18 => zrc s10 v18 2 (fun a27 => zcl C 128 [.ref a27] Y s10 (zqI (fun v24 s25 => ((v24 ≤ p9) → Q (some (.int p8)) s25) ∧ ((¬ v24 ≤ p9) → zrc s25 (some a0) 25 (fun a35 => zcl C 510 [.ref a35, .int x1, .int x2, .int p9] Y s25 (zqI (fun v32 s33 => zJ (fun (p39 : Int32) (s40 : zS) => (∀ v42 : Int32, v42 = p9 + (1 : Int32) → rec11 p39 v42 s40)) (fun (j41 : Int32 → zS → Prop) => ((v32 = 0) → zrc s33 (some a0) 25 (fun a48 => zcl C 511 [.ref a48, .int x1, .int x2, .int p9] Y s33 (zqI (fun v45 s46 => zJ (fun (p52 : Int32) (s53 : zS) => j41 p52 s53) (fun (j54 : Int32 → zS → Prop) => ((¬ x2 = 0) → zcl C 295 [.int p8, .int v45] Y s46 (zqI (fun v56 s57 => j54 v56 s57))) ∧ ((x2 = 0) → zcl C 297 [.int p8, .int v45] Y s46 (zqI (fun v59 s60 => j54 v59 s60)))))))) ∧ ((¬ v32 = 0) → j41 p8 s33)))))))))))) n v1 (0 : Int32) s2))))
set_option maxHeartbeats 4000000 in
theorem wk508 {l : Launch} {g : zG} {d : Nat} {C : zO} (hG : zGk g) (hC : zSound l g d C) {args : List Value} {Q : zQ} {Y : zY} {σ : zS} (hw : zb508 (zpg g) C args Q Y σ) : zMet l g (d + 1) (⟨"PackingDuel$Outlook", "find", "(III)I"⟩, Cond.code ⟨"PackingDuel$Outlook", "find", "(III)I"⟩ prog_15_method_8_code 7 (Option.some FieldType.int)) args σ Q Y := by
  obtain ⟨a0, x1, x2, x3, rfl, hw⟩ := hw
  refine zof hG (by decide +kernel) [false, false, false, false] ⟨rfl, rfl, rfl, rfl, trivial⟩ (Nat.le_of_ble_eq_true rfl) (ls := [some (va_rf (some a0)), some (.int x1), some (.int x2), some (.int x3), none, none, none]) rfl ?_
  intro X hX hR hTb hd1 hd2 hl hg hnm
  subst hl
  subst hg
  have hd : zDep X d := ⟨hd1, hd2⟩
  refine z_aload_n hX dX20_find_0 rfl (i := 0) rfl ?_
  refine z_iload_n hX dX20_find_1 rfl (i := 1) rfl ?_
  refine z_iload_n hX dX20_find_2 rfl (i := 2) rfl ?_
  refine z_iload_n hX dX20_find_3 rfl (i := 3) rfl ?_
  obtain ⟨a4, f5, r6, m7, hw⟩ := hw
  refine z_invV hX hd r6 (ci := 25) rfl rfl m7 dX20_find_4 (hC 509 _ zm509 _ _ _ _ hw) q696 q697 q698 zh46 q699 q179 zn509 rfl (Nat.le_of_ble_eq_true rfl) (st := []) rfl (zcs8 (Nat.le_of_ble_eq_true rfl)) rfl (zkI (fun v1 s2 hw => ?_)) (zout hX hR hTb)
  refine z_istore hX dX20_find_7 (i := 4) (Nat.le_of_ble_eq_true rfl) rfl (ls2 := [some (va_rf (some a0)), some (.int x1), some (.int x2), some (.int x3), some (.int v1), none, none]) rfl ?_
  refine z_iconst hX (v := (0 : Int32)) dX20_find_9 (by decide) ?_
  refine z_istore hX dX20_find_10 (i := 5) (Nat.le_of_ble_eq_true rfl) rfl (ls2 := [some (va_rf (some a0)), some (.int x1), some (.int x2), some (.int x3), some (.int v1), some (.int (0 : Int32)), none]) rfl ?_
  obtain ⟨n62, hw⟩ := hw
  refine z_sub (ls' := [some (va_rf (some a0)), some (.int x1), some (.int x2), none, some (.int v1), some (.int (0 : Int32)), none]) (zsS (zsS (zsS (zsN (zsS (zsS (zsN (zs0)))))))) ?_
  refine zIt_w (P := fun (j : Int32 → Int32 → zS → Prop) => ∀ (p8 : Int32) (p9 : Int32) (s10 : zS), j p8 p9 s10 → zW X s10 12 [some (va_rf (some a0)), some (.int x1), some (.int x2), none, some (.int p8), some (.int p9), none] []) (fun _ _ _ h => h.elim) (fun rec11 hrec11 p8 p9 s10 hw => ?_) n62 _ _ _ hw
  refine z_iload hX dX20_find_12 (i := 5) rfl ?_
  refine z_aload_n hX dX20_find_14 rfl (i := 0) rfl ?_
  obtain ⟨a13, f14, v12, r15, m16, e17, hw⟩ := hw
  refine z_get hX zc25 (k := 0) dX20_find_15 (Nat.le_of_ble_eq_true rfl) (zlk hX q661) r15 m16 e17 ?_
  obtain ⟨a19, f20, v18, r21, m22, e23, hw⟩ := hw
  refine z_get hX zc1 (k := 0) dX20_find_18 (Nat.le_of_ble_eq_true rfl) (zlkN hX "PackingDuel" q227) r21 m22 e23 ?_
  obtain ⟨a27, f28, r29, m30, hw⟩ := hw
  refine z_invV hX hd r29 (ci := 2) rfl rfl m30 dX20_find_21 (hC 128 _ zm128 _ _ _ _ hw) q684 q362 q363 zh5 q364 q134 zn128 rfl (Nat.le_of_ble_eq_true rfl) (st := [.int p9]) rfl (zcs8 (Nat.le_of_ble_eq_true rfl)) rfl (zkI (fun v24 s25 hw => ?_)) (zout hX hR hTb)
  refine z_icmp_ge hX dX20_find_24 (tgt := 80) rfl (fun c31 => ?_) (fun c31 => ?_)
  · have hw := hw.1 c31
    refine z_iload hX dX20_find_80 (i := 4) rfl ?_
    exact z_ireturn hX hR dX20_find_82 rfl hw
  · have hw := hw.2 c31
    refine z_aload_n hX dX20_find_27 rfl (i := 0) rfl ?_
    refine z_iload_n hX dX20_find_28 rfl (i := 1) rfl ?_
    refine z_iload_n hX dX20_find_29 rfl (i := 2) rfl ?_
    refine z_iload hX dX20_find_30 (i := 5) rfl ?_
    obtain ⟨a35, f36, r37, m38, hw⟩ := hw
    refine z_invV hX hd r37 (ci := 25) rfl rfl m38 dX20_find_32 (hC 510 _ zm510 _ _ _ _ hw) q701 q702 q703 zh46 q704 q179 zn510 rfl (Nat.le_of_ble_eq_true rfl) (st := []) rfl (zcs8 (Nat.le_of_ble_eq_true rfl)) rfl (zkI (fun v32 s33 hw => ?_)) (zout hX hR hTb)
    refine zJ_w (P := fun (j : Int32 → zS → Prop) => ∀ (p39 : Int32) (s40 : zS), j p39 s40 → zW X s40 74 [some (va_rf (some a0)), some (.int x1), some (.int x2), none, some (.int p39), some (.int p9), none] []) hw (fun p39 s40 hw => ?_) (fun j41 hj41 hw => ?_)
    · obtain ⟨v42, e43⟩ : ∃ y : Int32, y = p9 + (1 : Int32) := ⟨_, rfl⟩
      refine z_iinc hX dX20_find_74 (i := 5) (v := v42) rfl (by rw [e43]; rfl) (Nat.le_of_ble_eq_true rfl) rfl (ls2 := [some (va_rf (some a0)), some (.int x1), some (.int x2), none, some (.int p39), some (.int v42), none]) rfl ?_
      have hw := hw v42 e43
      refine z_goto hX dX20_find_77 (tgt := 12) rfl ?_
      exact hrec11 _ _ _ hw
    · refine z_if_eq hX dX20_find_35 (tgt := 41) rfl (fun c44 => ?_) (fun c44 => ?_)
      · have hw := hw.1 c44
        refine z_aload_n hX dX20_find_41 rfl (i := 0) rfl ?_
        refine z_iload_n hX dX20_find_42 rfl (i := 1) rfl ?_
        refine z_iload_n hX dX20_find_43 rfl (i := 2) rfl ?_
        refine z_iload hX dX20_find_44 (i := 5) rfl ?_
        obtain ⟨a48, f49, r50, m51, hw⟩ := hw
        refine z_invV hX hd r50 (ci := 25) rfl rfl m51 dX20_find_46 (hC 511 _ zm511 _ _ _ _ hw) q705 q706 q707 zh46 q708 q179 zn511 rfl (Nat.le_of_ble_eq_true rfl) (st := []) rfl (zcs8 (Nat.le_of_ble_eq_true rfl)) rfl (zkI (fun v45 s46 hw => ?_)) (zout hX hR hTb)
        refine z_istore hX dX20_find_49 (i := 6) (Nat.le_of_ble_eq_true rfl) rfl (ls2 := [some (va_rf (some a0)), some (.int x1), some (.int x2), none, some (.int p8), some (.int p9), some (.int v45)]) rfl ?_
        refine z_iload_n hX dX20_find_51 rfl (i := 2) rfl ?_
        refine zJ_w (P := fun (j : Int32 → zS → Prop) => ∀ (p52 : Int32) (s53 : zS), j p52 s53 → zW X s53 72 [some (va_rf (some a0)), some (.int x1), some (.int x2), none, none, some (.int p9), none] [.int p52]) hw (fun p52 s53 hw => ?_) (fun j54 hj54 hw => ?_)
        · refine z_istore hX dX20_find_72 (i := 4) (Nat.le_of_ble_eq_true rfl) trivial (ls2 := [some (va_rf (some a0)), some (.int x1), some (.int x2), none, some (.int p52), some (.int p9), none]) rfl ?_
          exact hj41 _ _ hw
        · refine z_if_ne hX dX20_find_52 (tgt := 65) rfl (fun c55 => ?_) (fun c55 => ?_)
          · have hw := hw.1 c55
            refine z_iload hX dX20_find_65 (i := 4) rfl ?_
            refine z_iload hX dX20_find_67 (i := 6) rfl ?_
            refine z_invS hX hd dX20_find_69 (hC 295 _ zm295 _ _ _ _ hw) q712 q479 zh8 q480 q137 zn295 rfl (Nat.le_of_ble_eq_true rfl) (st := []) rfl (zcs8 (Nat.le_of_ble_eq_true rfl)) rfl (zkI (fun v56 s57 hw => ?_)) (zout hX hR hTb)
            refine z_sub (ls' := [some (va_rf (some a0)), some (.int x1), some (.int x2), none, none, some (.int p9), none]) (zsS (zsS (zsS (zsN (zsN (zsS (zsN (zs0)))))))) ?_
            exact hj54 _ _ hw
          · have hw := hw.2 c55
            refine z_iload hX dX20_find_55 (i := 4) rfl ?_
            refine z_iload hX dX20_find_57 (i := 6) rfl ?_
            refine z_invS hX hd dX20_find_59 (hC 297 _ zm297 _ _ _ _ hw) q709 q710 zh8 q711 q137 zn297 rfl (Nat.le_of_ble_eq_true rfl) (st := []) rfl (zcs8 (Nat.le_of_ble_eq_true rfl)) rfl (zkI (fun v59 s60 hw => ?_)) (zout hX hR hTb)
            refine z_goto hX dX20_find_62 (tgt := 72) rfl ?_
            refine z_sub (ls' := [some (va_rf (some a0)), some (.int x1), some (.int x2), none, none, some (.int p9), none]) (zsS (zsS (zsS (zsN (zsN (zsS (zsN (zs0)))))))) ?_
            exact hj54 _ _ hw
      · have hw := hw.2 c44
        refine z_goto hX dX20_find_38 (tgt := 74) rfl ?_
        exact hj41 _ _ hw
abbrev cX20_byPassing : ByteArray := prog_15_method_7_code
def yX20_byPassing : MethodName := ⟨RX20, "byPassing", "(III)I"⟩
def dkwX20_byPassing_0 : List UInt8 := [42, 27, 4, 28, 100, 29, 4, 96, 182, 0, 73, 172]
abbrev dktX20_byPassing_0 : List UInt8 := dkwX20_byPassing_0 ++ []
theorem dksX20_byPassing_0 : cX20_byPassing.data.toList.drop 0 = dktX20_byPassing_0 := by decide +kernel
theorem dX20_byPassing_0 : decode cX20_byPassing 0 = .ok (.aload_n 0, 1) := dk_42 (dk_at dksX20_byPassing_0 0 rfl rfl)
theorem dX20_byPassing_1 : decode cX20_byPassing 1 = .ok (.iload_n 1, 1) := dk_27 (dk_at dksX20_byPassing_0 1 rfl rfl)
theorem dX20_byPassing_2 : decode cX20_byPassing 2 = .ok (.iconst 1, 1) := dk_4 (dk_at dksX20_byPassing_0 2 rfl rfl)
theorem dX20_byPassing_3 : decode cX20_byPassing 3 = .ok (.iload_n 2, 1) := dk_28 (dk_at dksX20_byPassing_0 3 rfl rfl)
theorem dX20_byPassing_4 : decode cX20_byPassing 4 = .ok (.isub, 1) := dk_100 (dk_at dksX20_byPassing_0 4 rfl rfl)
theorem dX20_byPassing_5 : decode cX20_byPassing 5 = .ok (.iload_n 3, 1) := dk_29 (dk_at dksX20_byPassing_0 5 rfl rfl)
theorem dX20_byPassing_6 : decode cX20_byPassing 6 = .ok (.iconst 1, 1) := dk_4 (dk_at dksX20_byPassing_0 6 rfl rfl)
theorem dX20_byPassing_7 : decode cX20_byPassing 7 = .ok (.iadd, 1) := dk_96 (dk_at dksX20_byPassing_0 7 rfl rfl)
theorem dX20_byPassing_8 : decode cX20_byPassing 8 = .ok (.invokevirtual 73, 3) := dk_182 0 73 (dk_at dksX20_byPassing_0 8 rfl rfl)
theorem dX20_byPassing_11 : decode cX20_byPassing 11 = .ok (.ireturn, 1) := dk_172 (dk_at dksX20_byPassing_0 11 rfl rfl)
/-- PackingDuel$Outlook.byPassing(III)I -/
def zb509 (G : zPg) (C : zO) (args : List Value) (Q : zQ) (Y : zY) (σ : zS) : Prop := ∃ (a0 : Nat) (x1 : Int32) (x2 : Int32) (x3 : Int32), args = [.ref a0, .int x1, .int x2, .int x3] ∧ (zrc σ (some a0) 25 (fun a4 => zcl C 505 [.ref a4, .int x1, .int ((1 : Int32) - x2), .int (x3 + (1 : Int32))] Y σ (zqI (fun v1 s2 => Q (some (.int v1)) s2))))
set_option maxHeartbeats 4000000 in
theorem wk509 {l : Launch} {g : zG} {d : Nat} {C : zO} (hG : zGk g) (hC : zSound l g d C) {args : List Value} {Q : zQ} {Y : zY} {σ : zS} (hw : zb509 (zpg g) C args Q Y σ) : zMet l g (d + 1) (⟨"PackingDuel$Outlook", "byPassing", "(III)I"⟩, Cond.code ⟨"PackingDuel$Outlook", "byPassing", "(III)I"⟩ prog_15_method_7_code 4 (Option.some FieldType.int)) args σ Q Y := by
  obtain ⟨a0, x1, x2, x3, rfl, hw⟩ := hw
  refine zof hG (by decide +kernel) [false, false, false, false] ⟨rfl, rfl, rfl, rfl, trivial⟩ (Nat.le_of_ble_eq_true rfl) (ls := [some (va_rf (some a0)), some (.int x1), some (.int x2), some (.int x3)]) rfl ?_
  intro X hX hR hTb hd1 hd2 hl hg hnm
  subst hl
  subst hg
  have hd : zDep X d := ⟨hd1, hd2⟩
  refine z_aload_n hX dX20_byPassing_0 rfl (i := 0) rfl ?_
  refine z_iload_n hX dX20_byPassing_1 rfl (i := 1) rfl ?_
  refine z_iconst hX (v := (1 : Int32)) dX20_byPassing_2 (by decide) ?_
  refine z_iload_n hX dX20_byPassing_3 rfl (i := 2) rfl ?_
  refine z_isub hX dX20_byPassing_4 ?_
  refine z_iload_n hX dX20_byPassing_5 rfl (i := 3) rfl ?_
  refine z_iconst hX (v := (1 : Int32)) dX20_byPassing_6 (by decide) ?_
  refine z_iadd hX dX20_byPassing_7 ?_
  obtain ⟨a4, f5, r6, m7, hw⟩ := hw
  refine z_invV hX hd r6 (ci := 25) rfl rfl m7 dX20_byPassing_8 (hC 505 _ zm505 _ _ _ _ hw) q700 q677 q678 zh46 q679 q179 zn505 rfl (Nat.le_of_ble_eq_true rfl) (st := []) rfl (zcs8 (Nat.le_of_ble_eq_true rfl)) rfl (zkI (fun v1 s2 hw => ?_)) (zout hX hR hTb)
  exact z_ireturn hX hR dX20_byPassing_11 rfl hw
abbrev cX20_reason : ByteArray := prog_15_method_4_code
def yX20_reason : MethodName := ⟨RX20, "reason", "(III)I"⟩
def dkwX20_reason_2 : List UInt8 := [162, 0, 7, 7, 167, 0, 4, 3, 172]
abbrev dktX20_reason_2 : List UInt8 := dkwX20_reason_2 ++ []
def dkwX20_reason_1 : List UInt8 := [164, 0, 5, 6, 172, 28, 4, 160, 0, 22, 42, 27, 182, 0, 60, 42, 180, 0, 9, 180, 0, 63]
abbrev dktX20_reason_1 : List UInt8 := dkwX20_reason_1 ++ dktX20_reason_2
def dkwX20_reason_0 : List UInt8 := [27, 29, 184, 0, 52, 153, 0, 5, 5, 172, 42, 180, 0, 9, 29, 3, 182, 0, 56, 42, 27, 182, 0, 60]
abbrev dktX20_reason_0 : List UInt8 := dkwX20_reason_0 ++ dktX20_reason_1
theorem dksX20_reason_0 : cX20_reason.data.toList.drop 0 = dktX20_reason_0 := by decide +kernel
theorem dksX20_reason_1 : cX20_reason.data.toList.drop 24 = dktX20_reason_1 := dk_seg dksX20_reason_0 24 rfl rfl
theorem dksX20_reason_2 : cX20_reason.data.toList.drop 46 = dktX20_reason_2 := dk_seg dksX20_reason_1 22 rfl rfl
theorem dX20_reason_0 : decode cX20_reason 0 = .ok (.iload_n 1, 1) := dk_27 (dk_at dksX20_reason_0 0 rfl rfl)
theorem dX20_reason_1 : decode cX20_reason 1 = .ok (.iload_n 3, 1) := dk_29 (dk_at dksX20_reason_0 1 rfl rfl)
theorem dX20_reason_2 : decode cX20_reason 2 = .ok (.invokestatic 52, 3) := dk_184 0 52 (dk_at dksX20_reason_0 2 rfl rfl)
theorem dX20_reason_5 : decode cX20_reason 5 = .ok (.ifCond .eq 5, 3) := dk_153 0 5 (dk_at dksX20_reason_0 5 rfl rfl)
theorem dX20_reason_8 : decode cX20_reason 8 = .ok (.iconst 2, 1) := dk_5 (dk_at dksX20_reason_0 8 rfl rfl)
theorem dX20_reason_9 : decode cX20_reason 9 = .ok (.ireturn, 1) := dk_172 (dk_at dksX20_reason_0 9 rfl rfl)
theorem dX20_reason_10 : decode cX20_reason 10 = .ok (.aload_n 0, 1) := dk_42 (dk_at dksX20_reason_0 10 rfl rfl)
theorem dX20_reason_11 : decode cX20_reason 11 = .ok (.getfield 9, 3) := dk_180 0 9 (dk_at dksX20_reason_0 11 rfl rfl)
theorem dX20_reason_14 : decode cX20_reason 14 = .ok (.iload_n 3, 1) := dk_29 (dk_at dksX20_reason_0 14 rfl rfl)
theorem dX20_reason_15 : decode cX20_reason 15 = .ok (.iconst 0, 1) := dk_3 (dk_at dksX20_reason_0 15 rfl rfl)
theorem dX20_reason_16 : decode cX20_reason 16 = .ok (.invokevirtual 56, 3) := dk_182 0 56 (dk_at dksX20_reason_0 16 rfl rfl)
theorem dX20_reason_19 : decode cX20_reason 19 = .ok (.aload_n 0, 1) := dk_42 (dk_at dksX20_reason_0 19 rfl rfl)
theorem dX20_reason_20 : decode cX20_reason 20 = .ok (.iload_n 1, 1) := dk_27 (dk_at dksX20_reason_0 20 rfl rfl)
theorem dX20_reason_21 : decode cX20_reason 21 = .ok (.invokevirtual 60, 3) := dk_182 0 60 (dk_at dksX20_reason_0 21 rfl rfl)
theorem dX20_reason_24 : decode cX20_reason 24 = .ok (.if_icmp .le 5, 3) := dk_164 0 5 (dk_at dksX20_reason_1 0 rfl rfl)
theorem dX20_reason_27 : decode cX20_reason 27 = .ok (.iconst 3, 1) := dk_6 (dk_at dksX20_reason_1 3 rfl rfl)
theorem dX20_reason_28 : decode cX20_reason 28 = .ok (.ireturn, 1) := dk_172 (dk_at dksX20_reason_1 4 rfl rfl)
theorem dX20_reason_29 : decode cX20_reason 29 = .ok (.iload_n 2, 1) := dk_28 (dk_at dksX20_reason_1 5 rfl rfl)
theorem dX20_reason_30 : decode cX20_reason 30 = .ok (.iconst 1, 1) := dk_4 (dk_at dksX20_reason_1 6 rfl rfl)
theorem dX20_reason_31 : decode cX20_reason 31 = .ok (.if_icmp .ne 22, 3) := dk_160 0 22 (dk_at dksX20_reason_1 7 rfl rfl)
theorem dX20_reason_34 : decode cX20_reason 34 = .ok (.aload_n 0, 1) := dk_42 (dk_at dksX20_reason_1 10 rfl rfl)
theorem dX20_reason_35 : decode cX20_reason 35 = .ok (.iload_n 1, 1) := dk_27 (dk_at dksX20_reason_1 11 rfl rfl)
theorem dX20_reason_36 : decode cX20_reason 36 = .ok (.invokevirtual 60, 3) := dk_182 0 60 (dk_at dksX20_reason_1 12 rfl rfl)
theorem dX20_reason_39 : decode cX20_reason 39 = .ok (.aload_n 0, 1) := dk_42 (dk_at dksX20_reason_1 15 rfl rfl)
theorem dX20_reason_40 : decode cX20_reason 40 = .ok (.getfield 9, 3) := dk_180 0 9 (dk_at dksX20_reason_1 16 rfl rfl)
theorem dX20_reason_43 : decode cX20_reason 43 = .ok (.getfield 63, 3) := dk_180 0 63 (dk_at dksX20_reason_1 19 rfl rfl)
theorem dX20_reason_46 : decode cX20_reason 46 = .ok (.if_icmp .ge 7, 3) := dk_162 0 7 (dk_at dksX20_reason_2 0 rfl rfl)
theorem dX20_reason_49 : decode cX20_reason 49 = .ok (.iconst 4, 1) := dk_7 (dk_at dksX20_reason_2 3 rfl rfl)
theorem dX20_reason_50 : decode cX20_reason 50 = .ok (.goto 4, 3) := dk_167 0 4 (dk_at dksX20_reason_2 4 rfl rfl)
theorem dX20_reason_53 : decode cX20_reason 53 = .ok (.iconst 0, 1) := dk_3 (dk_at dksX20_reason_2 7 rfl rfl)
theorem dX20_reason_54 : decode cX20_reason 54 = .ok (.ireturn, 1) := dk_172 (dk_at dksX20_reason_2 8 rfl rfl)
/-- PackingDuel$Outlook.reason(III)I -/
def zb510 (G : zPg) (C : zO) (args : List Value) (Q : zQ) (Y : zY) (σ : zS) : Prop := ∃ (a0 : Nat) (x1 : Int32) (x2 : Int32) (x3 : Int32), args = [.ref a0, .int x1, .int x2, .int x3] ∧ (zcl C 31 [.int x1, .int x3] Y σ (zqI (fun v1 s2 => ((v1 = 0) → zgR s2 (some a0) 25 0 (fun v5 => zrc s2 v5 1 (fun a14 => zcl C 94 [.ref a14, .int x3, .int (0 : Int32)] Y s2 (zqI (fun v11 s12 => zrc s12 (some a0) 25 (fun a21 => zcl C 507 [.ref a21, .int x1] Y s12 (zqI (fun v18 s19 => ((v11 ≤ v18) → zJ (fun (p26 : Int32) (s27 : zS) => Q (some (.int p26)) s27) (fun (j28 : Int32 → zS → Prop) => zJ (fun  (s29 : zS) => j28 (0 : Int32) s29) (fun (j30 : zS → Prop) => ((¬ x2 = (1 : Int32)) → j30 s19) ∧ ((x2 = (1 : Int32)) → zrc s19 (some a0) 25 (fun a35 => zcl C 507 [.ref a35, .int x1] Y s19 (zqI (fun v32 s33 => zgR s33 (some a0) 25 0 (fun v39 => zgI s33 v39 1 4 (fun v45 => ((v45 ≤ v32) → j30 s33) ∧ ((¬ v45 ≤ v32) → j28 (4 : Int32) s33)))))))))) ∧ ((¬ v11 ≤ v18) → Q (some (.int (3 : Int32))) s19))))))))) ∧ ((¬ v1 = 0) → Q (some (.int (2 : Int32))) s2))))
set_option maxHeartbeats 4000000 in
theorem wk510 {l : Launch} {g : zG} {d : Nat} {C : zO} (hG : zGk g) (hC : zSound l g d C) {args : List Value} {Q : zQ} {Y : zY} {σ : zS} (hw : zb510 (zpg g) C args Q Y σ) : zMet l g (d + 1) (⟨"PackingDuel$Outlook", "reason", "(III)I"⟩, Cond.code ⟨"PackingDuel$Outlook", "reason", "(III)I"⟩ prog_15_method_4_code 4 (Option.some FieldType.int)) args σ Q Y := by
  obtain ⟨a0, x1, x2, x3, rfl, hw⟩ := hw
  refine zof hG (by decide +kernel) [false, false, false, false] ⟨rfl, rfl, rfl, rfl, trivial⟩ (Nat.le_of_ble_eq_true rfl) (ls := [some (va_rf (some a0)), some (.int x1), some (.int x2), some (.int x3)]) rfl ?_
  intro X hX hR hTb hd1 hd2 hl hg hnm
  subst hl
  subst hg
  have hd : zDep X d := ⟨hd1, hd2⟩
  refine z_iload_n hX dX20_reason_0 rfl (i := 1) rfl ?_
  refine z_iload_n hX dX20_reason_1 rfl (i := 3) rfl ?_
  refine z_invSN hX hd dX20_reason_2 (hC 31 _ zm31 _ _ _ _ hw) q685 q523 zh1 q524 q130 zn31 rfl (Nat.le_of_ble_eq_true rfl) (st := []) rfl (zcs8 (Nat.le_of_ble_eq_true rfl)) rfl (zkI (fun v1 s2 hw => ?_)) (zout hX hR hTb)
  refine z_if_eq hX dX20_reason_5 (tgt := 10) rfl (fun c4 => ?_) (fun c4 => ?_)
  · have hw := hw.1 c4
    refine z_aload_n hX dX20_reason_10 rfl (i := 0) rfl ?_
    obtain ⟨a6, f7, v5, r8, m9, e10, hw⟩ := hw
    refine z_get hX zc25 (k := 0) dX20_reason_11 (Nat.le_of_ble_eq_true rfl) (zlk hX q661) r8 m9 e10 ?_
    refine z_iload_n hX dX20_reason_14 rfl (i := 3) rfl ?_
    refine z_iconst hX (v := (0 : Int32)) dX20_reason_15 (by decide) ?_
    obtain ⟨a14, f15, r16, m17, hw⟩ := hw
    refine z_invV hX hd r16 (ci := 1) rfl rfl m17 dX20_reason_16 (hC 94 _ zm94 _ _ _ _ hw) q686 q526 q527 zh2 q528 q131 zn94 rfl (Nat.le_of_ble_eq_true rfl) (st := []) rfl (zcs8 (Nat.le_of_ble_eq_true rfl)) rfl (zkI (fun v11 s12 hw => ?_)) (zout hX hR hTb)
    refine z_aload_n hX dX20_reason_19 rfl (i := 0) rfl ?_
    refine z_iload_n hX dX20_reason_20 rfl (i := 1) rfl ?_
    obtain ⟨a21, f22, r23, m24, hw⟩ := hw
    refine z_invV hX hd r23 (ci := 25) rfl rfl m24 dX20_reason_21 (hC 507 _ zm507 _ _ _ _ hw) q687 q689 qs9 zh46 q690 q179 zn507 rfl (Nat.le_of_ble_eq_true rfl) (st := [.int v11]) rfl (zcs8 (Nat.le_of_ble_eq_true rfl)) rfl (zkI (fun v18 s19 hw => ?_)) (zout hX hR hTb)
    refine z_icmp_le hX dX20_reason_24 (tgt := 29) rfl (fun c25 => ?_) (fun c25 => ?_)
    · have hw := hw.1 c25
      refine z_iload_n hX dX20_reason_29 rfl (i := 2) rfl ?_
      refine z_iconst hX (v := (1 : Int32)) dX20_reason_30 (by decide) ?_
      refine zJ_w (P := fun (j : Int32 → zS → Prop) => ∀ (p26 : Int32) (s27 : zS), j p26 s27 → zW X s27 54 [none, none, none, none] [.int p26]) hw (fun p26 s27 hw => ?_) (fun j28 hj28 hw => ?_)
      · exact z_ireturn hX hR dX20_reason_54 rfl hw
      · refine zJ_w (P := fun (j : zS → Prop) => ∀  (s29 : zS), j  s29 → zW X s29 53 [none, none, none, none] []) hw (fun  s29 hw => ?_) (fun j30 hj30 hw => ?_)
        · refine z_iconst hX (v := (0 : Int32)) dX20_reason_53 (by decide) ?_
          exact hj28 _ _ hw
        · refine z_icmp_ne hX dX20_reason_31 (tgt := 53) rfl (fun c31 => ?_) (fun c31 => ?_)
          · have hw := hw.1 c31
            refine z_sub (ls' := [none, none, none, none]) (zsN (zsN (zsN (zsN (zs0))))) ?_
            exact hj30  _ hw
          · have hw := hw.2 c31
            refine z_aload_n hX dX20_reason_34 rfl (i := 0) rfl ?_
            refine z_iload_n hX dX20_reason_35 rfl (i := 1) rfl ?_
            obtain ⟨a35, f36, r37, m38, hw⟩ := hw
            refine z_invV hX hd r37 (ci := 25) rfl rfl m38 dX20_reason_36 (hC 507 _ zm507 _ _ _ _ hw) q687 q689 qs9 zh46 q690 q179 zn507 rfl (Nat.le_of_ble_eq_true rfl) (st := []) rfl (zcs8 (Nat.le_of_ble_eq_true rfl)) rfl (zkI (fun v32 s33 hw => ?_)) (zout hX hR hTb)
            refine z_aload_n hX dX20_reason_39 rfl (i := 0) rfl ?_
            obtain ⟨a40, f41, v39, r42, m43, e44, hw⟩ := hw
            refine z_get hX zc25 (k := 0) dX20_reason_40 (Nat.le_of_ble_eq_true rfl) (zlk hX q661) r42 m43 e44 ?_
            obtain ⟨a46, f47, v45, r48, m49, e50, hw⟩ := hw
            refine z_get hX zc1 (k := 4) dX20_reason_43 (Nat.le_of_ble_eq_true rfl) (zlkN hX "PackingDuel" q239) r48 m49 e50 ?_
            refine z_icmp_ge hX dX20_reason_46 (tgt := 53) rfl (fun c51 => ?_) (fun c51 => ?_)
            · have hw := hw.1 c51
              refine z_sub (ls' := [none, none, none, none]) (zsN (zsN (zsN (zsN (zs0))))) ?_
              exact hj30  _ hw
            · have hw := hw.2 c51
              refine z_iconst hX (v := (4 : Int32)) dX20_reason_49 (by decide) ?_
              refine z_goto hX dX20_reason_50 (tgt := 54) rfl ?_
              refine z_sub (ls' := [none, none, none, none]) (zsN (zsN (zsN (zsN (zs0))))) ?_
              exact hj28 _ _ hw
    · have hw := hw.2 c25
      refine z_iconst hX (v := (3 : Int32)) dX20_reason_27 (by decide) ?_
      exact z_ireturn hX hR dX20_reason_28 rfl hw
  · have hw := hw.2 c4
    refine z_iconst hX (v := (2 : Int32)) dX20_reason_8 (by decide) ?_
    exact z_ireturn hX hR dX20_reason_9 rfl hw
abbrev cX20_byTaking : ByteArray := prog_15_method_6_code
def yX20_byTaking : MethodName := ⟨RX20, "byTaking", "(III)I"⟩
def dkwX20_byTaking_1 : List UInt8 := [182, 0, 56, 116, 42, 27, 4, 29, 120, 128, 4, 28, 100, 3, 182, 0, 73, 96, 172]
abbrev dktX20_byTaking_1 : List UInt8 := dkwX20_byTaking_1 ++ []
def dkwX20_byTaking_0 : List UInt8 := [28, 154, 0, 15, 42, 180, 0, 9, 29, 4, 182, 0, 56, 167, 0, 13, 42, 180, 0, 9, 29, 6]
abbrev dktX20_byTaking_0 : List UInt8 := dkwX20_byTaking_0 ++ dktX20_byTaking_1
theorem dksX20_byTaking_0 : cX20_byTaking.data.toList.drop 0 = dktX20_byTaking_0 := by decide +kernel
theorem dksX20_byTaking_1 : cX20_byTaking.data.toList.drop 22 = dktX20_byTaking_1 := dk_seg dksX20_byTaking_0 22 rfl rfl
theorem dX20_byTaking_0 : decode cX20_byTaking 0 = .ok (.iload_n 2, 1) := dk_28 (dk_at dksX20_byTaking_0 0 rfl rfl)
theorem dX20_byTaking_1 : decode cX20_byTaking 1 = .ok (.ifCond .ne 15, 3) := dk_154 0 15 (dk_at dksX20_byTaking_0 1 rfl rfl)
theorem dX20_byTaking_4 : decode cX20_byTaking 4 = .ok (.aload_n 0, 1) := dk_42 (dk_at dksX20_byTaking_0 4 rfl rfl)
theorem dX20_byTaking_5 : decode cX20_byTaking 5 = .ok (.getfield 9, 3) := dk_180 0 9 (dk_at dksX20_byTaking_0 5 rfl rfl)
theorem dX20_byTaking_8 : decode cX20_byTaking 8 = .ok (.iload_n 3, 1) := dk_29 (dk_at dksX20_byTaking_0 8 rfl rfl)
theorem dX20_byTaking_9 : decode cX20_byTaking 9 = .ok (.iconst 1, 1) := dk_4 (dk_at dksX20_byTaking_0 9 rfl rfl)
theorem dX20_byTaking_10 : decode cX20_byTaking 10 = .ok (.invokevirtual 56, 3) := dk_182 0 56 (dk_at dksX20_byTaking_0 10 rfl rfl)
theorem dX20_byTaking_13 : decode cX20_byTaking 13 = .ok (.goto 13, 3) := dk_167 0 13 (dk_at dksX20_byTaking_0 13 rfl rfl)
theorem dX20_byTaking_16 : decode cX20_byTaking 16 = .ok (.aload_n 0, 1) := dk_42 (dk_at dksX20_byTaking_0 16 rfl rfl)
theorem dX20_byTaking_17 : decode cX20_byTaking 17 = .ok (.getfield 9, 3) := dk_180 0 9 (dk_at dksX20_byTaking_0 17 rfl rfl)
theorem dX20_byTaking_20 : decode cX20_byTaking 20 = .ok (.iload_n 3, 1) := dk_29 (dk_at dksX20_byTaking_0 20 rfl rfl)
theorem dX20_byTaking_21 : decode cX20_byTaking 21 = .ok (.iconst 3, 1) := dk_6 (dk_at dksX20_byTaking_0 21 rfl rfl)
theorem dX20_byTaking_22 : decode cX20_byTaking 22 = .ok (.invokevirtual 56, 3) := dk_182 0 56 (dk_at dksX20_byTaking_1 0 rfl rfl)
theorem dX20_byTaking_25 : decode cX20_byTaking 25 = .ok (.ineg, 1) := dk_116 (dk_at dksX20_byTaking_1 3 rfl rfl)
theorem dX20_byTaking_26 : decode cX20_byTaking 26 = .ok (.aload_n 0, 1) := dk_42 (dk_at dksX20_byTaking_1 4 rfl rfl)
theorem dX20_byTaking_27 : decode cX20_byTaking 27 = .ok (.iload_n 1, 1) := dk_27 (dk_at dksX20_byTaking_1 5 rfl rfl)
theorem dX20_byTaking_28 : decode cX20_byTaking 28 = .ok (.iconst 1, 1) := dk_4 (dk_at dksX20_byTaking_1 6 rfl rfl)
theorem dX20_byTaking_29 : decode cX20_byTaking 29 = .ok (.iload_n 3, 1) := dk_29 (dk_at dksX20_byTaking_1 7 rfl rfl)
theorem dX20_byTaking_30 : decode cX20_byTaking 30 = .ok (.ishl, 1) := dk_120 (dk_at dksX20_byTaking_1 8 rfl rfl)
theorem dX20_byTaking_31 : decode cX20_byTaking 31 = .ok (.ior, 1) := dk_128 (dk_at dksX20_byTaking_1 9 rfl rfl)
theorem dX20_byTaking_32 : decode cX20_byTaking 32 = .ok (.iconst 1, 1) := dk_4 (dk_at dksX20_byTaking_1 10 rfl rfl)
theorem dX20_byTaking_33 : decode cX20_byTaking 33 = .ok (.iload_n 2, 1) := dk_28 (dk_at dksX20_byTaking_1 11 rfl rfl)
theorem dX20_byTaking_34 : decode cX20_byTaking 34 = .ok (.isub, 1) := dk_100 (dk_at dksX20_byTaking_1 12 rfl rfl)
theorem dX20_byTaking_35 : decode cX20_byTaking 35 = .ok (.iconst 0, 1) := dk_3 (dk_at dksX20_byTaking_1 13 rfl rfl)
theorem dX20_byTaking_36 : decode cX20_byTaking 36 = .ok (.invokevirtual 73, 3) := dk_182 0 73 (dk_at dksX20_byTaking_1 14 rfl rfl)
theorem dX20_byTaking_39 : decode cX20_byTaking 39 = .ok (.iadd, 1) := dk_96 (dk_at dksX20_byTaking_1 17 rfl rfl)
theorem dX20_byTaking_40 : decode cX20_byTaking 40 = .ok (.ireturn, 1) := dk_172 (dk_at dksX20_byTaking_1 18 rfl rfl)
/-- PackingDuel$Outlook.byTaking(III)I -/
def zb511 (G : zPg) (C : zO) (args : List Value) (Q : zQ) (Y : zY) (σ : zS) : Prop := ∃ (a0 : Nat) (x1 : Int32) (x2 : Int32) (x3 : Int32), args = [.ref a0, .int x1, .int x2, .int x3] ∧ (zJ (fun (p1 : Int32) (s2 : zS) => zrc s2 (some a0) 25 (fun a7 => zcl C 505 [.ref a7, .int (x1 ||| ((1 : Int32) <<< (x3 &&& 31))), .int ((1 : Int32) - x2), .int (0 : Int32)] Y s2 (zqI (fun v4 s5 => Q (some (.int (p1 + v4))) s5)))) (fun (j3 : Int32 → zS → Prop) => ((¬ x2 = 0) → zgR σ (some a0) 25 0 (fun v12 => zrc σ v12 1 (fun a21 => zcl C 94 [.ref a21, .int x3, .int (3 : Int32)] Y σ (zqI (fun v18 s19 => j3 (-v18) s19))))) ∧ ((x2 = 0) → zgR σ (some a0) 25 0 (fun v25 => zrc σ v25 1 (fun a34 => zcl C 94 [.ref a34, .int x3, .int (1 : Int32)] Y σ (zqI (fun v31 s32 => j3 v31 s32)))))))
set_option maxHeartbeats 4000000 in
theorem wk511 {l : Launch} {g : zG} {d : Nat} {C : zO} (hG : zGk g) (hC : zSound l g d C) {args : List Value} {Q : zQ} {Y : zY} {σ : zS} (hw : zb511 (zpg g) C args Q Y σ) : zMet l g (d + 1) (⟨"PackingDuel$Outlook", "byTaking", "(III)I"⟩, Cond.code ⟨"PackingDuel$Outlook", "byTaking", "(III)I"⟩ prog_15_method_6_code 4 (Option.some FieldType.int)) args σ Q Y := by
  obtain ⟨a0, x1, x2, x3, rfl, hw⟩ := hw
  refine zof hG (by decide +kernel) [false, false, false, false] ⟨rfl, rfl, rfl, rfl, trivial⟩ (Nat.le_of_ble_eq_true rfl) (ls := [some (va_rf (some a0)), some (.int x1), some (.int x2), some (.int x3)]) rfl ?_
  intro X hX hR hTb hd1 hd2 hl hg hnm
  subst hl
  subst hg
  have hd : zDep X d := ⟨hd1, hd2⟩
  refine z_iload_n hX dX20_byTaking_0 rfl (i := 2) rfl ?_
  refine zJ_w (P := fun (j : Int32 → zS → Prop) => ∀ (p1 : Int32) (s2 : zS), j p1 s2 → zW X s2 26 [some (va_rf (some a0)), some (.int x1), some (.int x2), some (.int x3)] [.int p1]) hw (fun p1 s2 hw => ?_) (fun j3 hj3 hw => ?_)
  · refine z_aload_n hX dX20_byTaking_26 rfl (i := 0) rfl ?_
    refine z_iload_n hX dX20_byTaking_27 rfl (i := 1) rfl ?_
    refine z_iconst hX (v := (1 : Int32)) dX20_byTaking_28 (by decide) ?_
    refine z_iload_n hX dX20_byTaking_29 rfl (i := 3) rfl ?_
    refine z_ishl hX dX20_byTaking_30 ?_
    refine z_ior hX dX20_byTaking_31 ?_
    refine z_iconst hX (v := (1 : Int32)) dX20_byTaking_32 (by decide) ?_
    refine z_iload_n hX dX20_byTaking_33 rfl (i := 2) rfl ?_
    refine z_isub hX dX20_byTaking_34 ?_
    refine z_iconst hX (v := (0 : Int32)) dX20_byTaking_35 (by decide) ?_
    obtain ⟨a7, f8, r9, m10, hw⟩ := hw
    refine z_invV hX hd r9 (ci := 25) rfl rfl m10 dX20_byTaking_36 (hC 505 _ zm505 _ _ _ _ hw) q700 q677 q678 zh46 q679 q179 zn505 rfl (Nat.le_of_ble_eq_true rfl) (st := [.int p1]) rfl (zcs8 (Nat.le_of_ble_eq_true rfl)) rfl (zkI (fun v4 s5 hw => ?_)) (zout hX hR hTb)
    refine z_iadd hX dX20_byTaking_39 ?_
    exact z_ireturn hX hR dX20_byTaking_40 rfl hw
  · refine z_if_ne hX dX20_byTaking_1 (tgt := 16) rfl (fun c11 => ?_) (fun c11 => ?_)
    · have hw := hw.1 c11
      refine z_aload_n hX dX20_byTaking_16 rfl (i := 0) rfl ?_
      obtain ⟨a13, f14, v12, r15, m16, e17, hw⟩ := hw
      refine z_get hX zc25 (k := 0) dX20_byTaking_17 (Nat.le_of_ble_eq_true rfl) (zlk hX q661) r15 m16 e17 ?_
      refine z_iload_n hX dX20_byTaking_20 rfl (i := 3) rfl ?_
      refine z_iconst hX (v := (3 : Int32)) dX20_byTaking_21 (by decide) ?_
      obtain ⟨a21, f22, r23, m24, hw⟩ := hw
      refine z_invV hX hd r23 (ci := 1) rfl rfl m24 dX20_byTaking_22 (hC 94 _ zm94 _ _ _ _ hw) q686 q526 q527 zh2 q528 q131 zn94 rfl (Nat.le_of_ble_eq_true rfl) (st := []) rfl (zcs8 (Nat.le_of_ble_eq_true rfl)) rfl (zkI (fun v18 s19 hw => ?_)) (zout hX hR hTb)
      refine z_ineg hX dX20_byTaking_25 ?_
      exact hj3 _ _ hw
    · have hw := hw.2 c11
      refine z_aload_n hX dX20_byTaking_4 rfl (i := 0) rfl ?_
      obtain ⟨a26, f27, v25, r28, m29, e30, hw⟩ := hw
      refine z_get hX zc25 (k := 0) dX20_byTaking_5 (Nat.le_of_ble_eq_true rfl) (zlk hX q661) r28 m29 e30 ?_
      refine z_iload_n hX dX20_byTaking_8 rfl (i := 3) rfl ?_
      refine z_iconst hX (v := (1 : Int32)) dX20_byTaking_9 (by decide) ?_
      obtain ⟨a34, f35, r36, m37, hw⟩ := hw
      refine z_invV hX hd r36 (ci := 1) rfl rfl m37 dX20_byTaking_10 (hC 94 _ zm94 _ _ _ _ hw) q686 q526 q527 zh2 q528 q131 zn94 rfl (Nat.le_of_ble_eq_true rfl) (st := []) rfl (zcs8 (Nat.le_of_ble_eq_true rfl)) rfl (zkI (fun v31 s32 hw => ?_)) (zout hX hR hTb)
      refine z_goto hX dX20_byTaking_13 (tgt := 26) rfl ?_
      exact hj3 _ _ hw
abbrev cX20_bestMove : ByteArray := prog_15_method_9_code
def yX20_bestMove : MethodName := ⟨RX20, "bestMove", "(III)I"⟩
def dkwX20_bestMove_2 : List UInt8 := [21, 4, 172, 132, 4, 1, 167, 255, 206, 2, 172]
abbrev dktX20_bestMove_2 : List UInt8 := dkwX20_bestMove_2 ++ []
def dkwX20_bestMove_1 : List UInt8 := [182, 0, 79, 154, 0, 24, 42, 27, 28, 21, 4, 182, 0, 82, 42, 27, 28, 29, 182, 0, 73, 160, 0, 6]
abbrev dktX20_bestMove_1 : List UInt8 := dkwX20_bestMove_1 ++ dktX20_bestMove_2
def dkwX20_bestMove_0 : List UInt8 := [3, 54, 4, 21, 4, 42, 180, 0, 9, 180, 0, 43, 182, 0, 47, 162, 0, 41, 42, 27, 28, 21, 4]
abbrev dktX20_bestMove_0 : List UInt8 := dkwX20_bestMove_0 ++ dktX20_bestMove_1
theorem dksX20_bestMove_0 : cX20_bestMove.data.toList.drop 0 = dktX20_bestMove_0 := by decide +kernel
theorem dksX20_bestMove_1 : cX20_bestMove.data.toList.drop 23 = dktX20_bestMove_1 := dk_seg dksX20_bestMove_0 23 rfl rfl
theorem dksX20_bestMove_2 : cX20_bestMove.data.toList.drop 47 = dktX20_bestMove_2 := dk_seg dksX20_bestMove_1 24 rfl rfl
theorem dX20_bestMove_0 : decode cX20_bestMove 0 = .ok (.iconst 0, 1) := dk_3 (dk_at dksX20_bestMove_0 0 rfl rfl)
theorem dX20_bestMove_1 : decode cX20_bestMove 1 = .ok (.istore 4, 2) := dk_54 4 (dk_at dksX20_bestMove_0 1 rfl rfl)
theorem dX20_bestMove_3 : decode cX20_bestMove 3 = .ok (.iload 4, 2) := dk_21 4 (dk_at dksX20_bestMove_0 3 rfl rfl)
theorem dX20_bestMove_5 : decode cX20_bestMove 5 = .ok (.aload_n 0, 1) := dk_42 (dk_at dksX20_bestMove_0 5 rfl rfl)
theorem dX20_bestMove_6 : decode cX20_bestMove 6 = .ok (.getfield 9, 3) := dk_180 0 9 (dk_at dksX20_bestMove_0 6 rfl rfl)
theorem dX20_bestMove_9 : decode cX20_bestMove 9 = .ok (.getfield 43, 3) := dk_180 0 43 (dk_at dksX20_bestMove_0 9 rfl rfl)
theorem dX20_bestMove_12 : decode cX20_bestMove 12 = .ok (.invokevirtual 47, 3) := dk_182 0 47 (dk_at dksX20_bestMove_0 12 rfl rfl)
theorem dX20_bestMove_15 : decode cX20_bestMove 15 = .ok (.if_icmp .ge 41, 3) := dk_162 0 41 (dk_at dksX20_bestMove_0 15 rfl rfl)
theorem dX20_bestMove_18 : decode cX20_bestMove 18 = .ok (.aload_n 0, 1) := dk_42 (dk_at dksX20_bestMove_0 18 rfl rfl)
theorem dX20_bestMove_19 : decode cX20_bestMove 19 = .ok (.iload_n 1, 1) := dk_27 (dk_at dksX20_bestMove_0 19 rfl rfl)
theorem dX20_bestMove_20 : decode cX20_bestMove 20 = .ok (.iload_n 2, 1) := dk_28 (dk_at dksX20_bestMove_0 20 rfl rfl)
theorem dX20_bestMove_21 : decode cX20_bestMove 21 = .ok (.iload 4, 2) := dk_21 4 (dk_at dksX20_bestMove_0 21 rfl rfl)
theorem dX20_bestMove_23 : decode cX20_bestMove 23 = .ok (.invokevirtual 79, 3) := dk_182 0 79 (dk_at dksX20_bestMove_1 0 rfl rfl)
theorem dX20_bestMove_26 : decode cX20_bestMove 26 = .ok (.ifCond .ne 24, 3) := dk_154 0 24 (dk_at dksX20_bestMove_1 3 rfl rfl)
theorem dX20_bestMove_29 : decode cX20_bestMove 29 = .ok (.aload_n 0, 1) := dk_42 (dk_at dksX20_bestMove_1 6 rfl rfl)
theorem dX20_bestMove_30 : decode cX20_bestMove 30 = .ok (.iload_n 1, 1) := dk_27 (dk_at dksX20_bestMove_1 7 rfl rfl)
theorem dX20_bestMove_31 : decode cX20_bestMove 31 = .ok (.iload_n 2, 1) := dk_28 (dk_at dksX20_bestMove_1 8 rfl rfl)
theorem dX20_bestMove_32 : decode cX20_bestMove 32 = .ok (.iload 4, 2) := dk_21 4 (dk_at dksX20_bestMove_1 9 rfl rfl)
theorem dX20_bestMove_34 : decode cX20_bestMove 34 = .ok (.invokevirtual 82, 3) := dk_182 0 82 (dk_at dksX20_bestMove_1 11 rfl rfl)
theorem dX20_bestMove_37 : decode cX20_bestMove 37 = .ok (.aload_n 0, 1) := dk_42 (dk_at dksX20_bestMove_1 14 rfl rfl)
theorem dX20_bestMove_38 : decode cX20_bestMove 38 = .ok (.iload_n 1, 1) := dk_27 (dk_at dksX20_bestMove_1 15 rfl rfl)
theorem dX20_bestMove_39 : decode cX20_bestMove 39 = .ok (.iload_n 2, 1) := dk_28 (dk_at dksX20_bestMove_1 16 rfl rfl)
theorem dX20_bestMove_40 : decode cX20_bestMove 40 = .ok (.iload_n 3, 1) := dk_29 (dk_at dksX20_bestMove_1 17 rfl rfl)
theorem dX20_bestMove_41 : decode cX20_bestMove 41 = .ok (.invokevirtual 73, 3) := dk_182 0 73 (dk_at dksX20_bestMove_1 18 rfl rfl)
theorem dX20_bestMove_44 : decode cX20_bestMove 44 = .ok (.if_icmp .ne 6, 3) := dk_160 0 6 (dk_at dksX20_bestMove_1 21 rfl rfl)
theorem dX20_bestMove_47 : decode cX20_bestMove 47 = .ok (.iload 4, 2) := dk_21 4 (dk_at dksX20_bestMove_2 0 rfl rfl)
theorem dX20_bestMove_49 : decode cX20_bestMove 49 = .ok (.ireturn, 1) := dk_172 (dk_at dksX20_bestMove_2 2 rfl rfl)
theorem dX20_bestMove_50 : decode cX20_bestMove 50 = .ok (.iinc 4 1, 3) := dk_132 4 1 (dk_at dksX20_bestMove_2 3 rfl rfl)
theorem dX20_bestMove_53 : decode cX20_bestMove 53 = .ok (.goto (-50), 3) := dk_167 255 206 (dk_at dksX20_bestMove_2 6 rfl rfl)
theorem dX20_bestMove_56 : decode cX20_bestMove 56 = .ok (.iconst (-1), 1) := dk_2 (dk_at dksX20_bestMove_2 9 rfl rfl)
theorem dX20_bestMove_57 : decode cX20_bestMove 57 = .ok (.ireturn, 1) := dk_172 (dk_at dksX20_bestMove_2 10 rfl rfl)
/-- PackingDuel$Outlook.bestMove(III)I -/
def zb512 (G : zPg) (C : zO) (args : List Value) (Q : zQ) (Y : zY) (σ : zS) : Prop := ∃ (a0 : Nat) (x1 : Int32) (x2 : Int32) (x3 : Int32), args = [.ref a0, .int x1, .int x2, .int x3] ∧ (∃ n, zIt (fun _ _ => False) (fun rec3 (p1 : Int32) (s2 : zS) => zgR s2 (some a0) 25 0 (fun v4 => zgR s2 v4 1 0 (fun v10 => zrc s2 v10 2 (fun a19 => zcl C 128 [.ref a19] Y s2 (zqI (fun v16 s17 => ((v16 ≤ p1) → Q (some (.int (-1 : Int32))) s17) ∧ ((¬ v16 ≤ p1) → zrc s17 (some a0) 25 (fun a27 => zcl C 510 [.ref a27, .int x1, .int x2, .int p1] Y s17 (zqI (fun v24 s25 => zJ (fun  (s31 : zS) => (∀ v33 : Int32, v33 = p1 + (1 : Int32) → rec3 v33 s31)) (fun (j32 : zS → Prop) => ((¬ v24 = 0) → j32 s25) ∧ ((v24 = 0) → zrc s25 (some a0) 25 (fun a39 => zcl C 511 [.ref a39, .int x1, .int x2, .int p1] Y s25 (zqI (fun v36 s37 => zrc s37 (some a0) 25 (fun a46 => zcl C 505 [.ref a46, .int x1, .int x2, .int x3] Y s37 (zqI (fun v43 s44 => ((¬ v36 = v43) → j32 s44) ∧ ((v36 = v43) → Q (some (.int p1)) s44))))))))))))))))))) n (0 : Int32) σ)
set_option maxHeartbeats 4000000 in
theorem wk512 {l : Launch} {g : zG} {d : Nat} {C : zO} (hG : zGk g) (hC : zSound l g d C) {args : List Value} {Q : zQ} {Y : zY} {σ : zS} (hw : zb512 (zpg g) C args Q Y σ) : zMet l g (d + 1) (⟨"PackingDuel$Outlook", "bestMove", "(III)I"⟩, Cond.code ⟨"PackingDuel$Outlook", "bestMove", "(III)I"⟩ prog_15_method_9_code 5 (Option.some FieldType.int)) args σ Q Y := by
  obtain ⟨a0, x1, x2, x3, rfl, hw⟩ := hw
  refine zof hG (by decide +kernel) [false, false, false, false] ⟨rfl, rfl, rfl, rfl, trivial⟩ (Nat.le_of_ble_eq_true rfl) (ls := [some (va_rf (some a0)), some (.int x1), some (.int x2), some (.int x3), none]) rfl ?_
  intro X hX hR hTb hd1 hd2 hl hg hnm
  subst hl
  subst hg
  have hd : zDep X d := ⟨hd1, hd2⟩
  refine z_iconst hX (v := (0 : Int32)) dX20_bestMove_0 (by decide) ?_
  refine z_istore hX dX20_bestMove_1 (i := 4) (Nat.le_of_ble_eq_true rfl) rfl (ls2 := [some (va_rf (some a0)), some (.int x1), some (.int x2), some (.int x3), some (.int (0 : Int32))]) rfl ?_
  obtain ⟨n51, hw⟩ := hw
  refine zIt_w (P := fun (j : Int32 → zS → Prop) => ∀ (p1 : Int32) (s2 : zS), j p1 s2 → zW X s2 3 [some (va_rf (some a0)), some (.int x1), some (.int x2), some (.int x3), some (.int p1)] []) (fun _ _ h => h.elim) (fun rec3 hrec3 p1 s2 hw => ?_) n51 _ _ hw
  refine z_iload hX dX20_bestMove_3 (i := 4) rfl ?_
  refine z_aload_n hX dX20_bestMove_5 rfl (i := 0) rfl ?_
  obtain ⟨a5, f6, v4, r7, m8, e9, hw⟩ := hw
  refine z_get hX zc25 (k := 0) dX20_bestMove_6 (Nat.le_of_ble_eq_true rfl) (zlk hX q661) r7 m8 e9 ?_
  obtain ⟨a11, f12, v10, r13, m14, e15, hw⟩ := hw
  refine z_get hX zc1 (k := 0) dX20_bestMove_9 (Nat.le_of_ble_eq_true rfl) (zlkN hX "PackingDuel" q227) r13 m14 e15 ?_
  obtain ⟨a19, f20, r21, m22, hw⟩ := hw
  refine z_invV hX hd r21 (ci := 2) rfl rfl m22 dX20_bestMove_12 (hC 128 _ zm128 _ _ _ _ hw) q684 q362 q363 zh5 q364 q134 zn128 rfl (Nat.le_of_ble_eq_true rfl) (st := [.int p1]) rfl (zcs8 (Nat.le_of_ble_eq_true rfl)) rfl (zkI (fun v16 s17 hw => ?_)) (zout hX hR hTb)
  refine z_icmp_ge hX dX20_bestMove_15 (tgt := 56) rfl (fun c23 => ?_) (fun c23 => ?_)
  · have hw := hw.1 c23
    refine z_iconst hX (v := (-1 : Int32)) dX20_bestMove_56 (by decide) ?_
    exact z_ireturn hX hR dX20_bestMove_57 rfl hw
  · have hw := hw.2 c23
    refine z_aload_n hX dX20_bestMove_18 rfl (i := 0) rfl ?_
    refine z_iload_n hX dX20_bestMove_19 rfl (i := 1) rfl ?_
    refine z_iload_n hX dX20_bestMove_20 rfl (i := 2) rfl ?_
    refine z_iload hX dX20_bestMove_21 (i := 4) rfl ?_
    obtain ⟨a27, f28, r29, m30, hw⟩ := hw
    refine z_invV hX hd r29 (ci := 25) rfl rfl m30 dX20_bestMove_23 (hC 510 _ zm510 _ _ _ _ hw) q701 q702 q703 zh46 q704 q179 zn510 rfl (Nat.le_of_ble_eq_true rfl) (st := []) rfl (zcs8 (Nat.le_of_ble_eq_true rfl)) rfl (zkI (fun v24 s25 hw => ?_)) (zout hX hR hTb)
    refine zJ_w (P := fun (j : zS → Prop) => ∀  (s31 : zS), j  s31 → zW X s31 50 [some (va_rf (some a0)), some (.int x1), some (.int x2), some (.int x3), some (.int p1)] []) hw (fun  s31 hw => ?_) (fun j32 hj32 hw => ?_)
    · obtain ⟨v33, e34⟩ : ∃ y : Int32, y = p1 + (1 : Int32) := ⟨_, rfl⟩
      refine z_iinc hX dX20_bestMove_50 (i := 4) (v := v33) rfl (by rw [e34]; rfl) (Nat.le_of_ble_eq_true rfl) rfl (ls2 := [some (va_rf (some a0)), some (.int x1), some (.int x2), some (.int x3), some (.int v33)]) rfl ?_
      have hw := hw v33 e34
      refine z_goto hX dX20_bestMove_53 (tgt := 3) rfl ?_
      exact hrec3 _ _ hw
    · refine z_if_ne hX dX20_bestMove_26 (tgt := 50) rfl (fun c35 => ?_) (fun c35 => ?_)
      · have hw := hw.1 c35
        exact hj32  _ hw
      · have hw := hw.2 c35
        refine z_aload_n hX dX20_bestMove_29 rfl (i := 0) rfl ?_
        refine z_iload_n hX dX20_bestMove_30 rfl (i := 1) rfl ?_
        refine z_iload_n hX dX20_bestMove_31 rfl (i := 2) rfl ?_
        refine z_iload hX dX20_bestMove_32 (i := 4) rfl ?_
        obtain ⟨a39, f40, r41, m42, hw⟩ := hw
        refine z_invV hX hd r41 (ci := 25) rfl rfl m42 dX20_bestMove_34 (hC 511 _ zm511 _ _ _ _ hw) q705 q706 q707 zh46 q708 q179 zn511 rfl (Nat.le_of_ble_eq_true rfl) (st := []) rfl (zcs8 (Nat.le_of_ble_eq_true rfl)) rfl (zkI (fun v36 s37 hw => ?_)) (zout hX hR hTb)
        refine z_aload_n hX dX20_bestMove_37 rfl (i := 0) rfl ?_
        refine z_iload_n hX dX20_bestMove_38 rfl (i := 1) rfl ?_
        refine z_iload_n hX dX20_bestMove_39 rfl (i := 2) rfl ?_
        refine z_iload_n hX dX20_bestMove_40 rfl (i := 3) rfl ?_
        obtain ⟨a46, f47, r48, m49, hw⟩ := hw
        refine z_invV hX hd r48 (ci := 25) rfl rfl m49 dX20_bestMove_41 (hC 505 _ zm505 _ _ _ _ hw) q700 q677 q678 zh46 q679 q179 zn505 rfl (Nat.le_of_ble_eq_true rfl) (st := [.int v36]) rfl (zcs8 (Nat.le_of_ble_eq_true rfl)) rfl (zkI (fun v43 s44 hw => ?_)) (zout hX hR hTb)
        refine z_icmp_ne hX dX20_bestMove_44 (tgt := 50) rfl (fun c50 => ?_) (fun c50 => ?_)
        · have hw := hw.1 c50
          exact hj32  _ hw
        · have hw := hw.2 c50
          refine z_iload hX dX20_bestMove_47 (i := 4) rfl ?_
          exact z_ireturn hX hR dX20_bestMove_49 rfl hw
abbrev cX21_init : ByteArray := prog_16_method_1_code
def yX21_init : MethodName := ⟨RX21, "<init>", "(LPackingDuel;I)V"⟩
def dkwX21_init_0 : List UInt8 := [42, 43, 181, 0, 3, 42, 43, 28, 183, 0, 9, 177]
abbrev dktX21_init_0 : List UInt8 := dkwX21_init_0 ++ []
theorem dksX21_init_0 : cX21_init.data.toList.drop 0 = dktX21_init_0 := by decide +kernel
theorem dX21_init_0 : decode cX21_init 0 = .ok (.aload_n 0, 1) := dk_42 (dk_at dksX21_init_0 0 rfl rfl)
theorem dX21_init_1 : decode cX21_init 1 = .ok (.aload_n 1, 1) := dk_43 (dk_at dksX21_init_0 1 rfl rfl)
theorem dX21_init_2 : decode cX21_init 2 = .ok (.putfield 3, 3) := dk_181 0 3 (dk_at dksX21_init_0 2 rfl rfl)
theorem dX21_init_5 : decode cX21_init 5 = .ok (.aload_n 0, 1) := dk_42 (dk_at dksX21_init_0 5 rfl rfl)
theorem dX21_init_6 : decode cX21_init 6 = .ok (.aload_n 1, 1) := dk_43 (dk_at dksX21_init_0 6 rfl rfl)
theorem dX21_init_7 : decode cX21_init 7 = .ok (.iload_n 2, 1) := dk_28 (dk_at dksX21_init_0 7 rfl rfl)
theorem dX21_init_8 : decode cX21_init 8 = .ok (.invokespecial 9, 3) := dk_183 0 9 (dk_at dksX21_init_0 8 rfl rfl)
theorem dX21_init_11 : decode cX21_init 11 = .ok (.return_, 1) := dk_177 (dk_at dksX21_init_0 11 rfl rfl)
/-- PackingDuel$QueryParser.<init>(LPackingDuel;I)V -/
def zb513 (G : zPg) (C : zO) (args : List Value) (Q : zQ) (Y : zY) (σ : zS) : Prop := ∃ (a0 : Nat) (x1 : Option Nat) (x2 : Int32), args = [.ref a0, va_rf x1, .int x2] ∧ (zput σ G.1 (some a0) 26 10 (va_rf x1) (fun s1 => (∃ a12, (some a0) = some a12 ∧ zcl C 310 [.ref a12, va_rf x1, .int x2] Y s1 (zqV (fun s10 => Q none s10)))))
set_option maxHeartbeats 4000000 in
theorem wk513 {l : Launch} {g : zG} {d : Nat} {C : zO} (hG : zGk g) (hC : zSound l g d C) {args : List Value} {Q : zQ} {Y : zY} {σ : zS} (hw : zb513 (zpg g) C args Q Y σ) : zMet l g (d + 1) (⟨"PackingDuel$QueryParser", "<init>", "(LPackingDuel;I)V"⟩, Cond.code ⟨"PackingDuel$QueryParser", "<init>", "(LPackingDuel;I)V"⟩ prog_16_method_1_code 3 (Option.none : Option FieldType)) args σ Q Y := by
  obtain ⟨a0, x1, x2, rfl, hw⟩ := hw
  refine zof hG (by decide +kernel) [false, false, false] ⟨rfl, (zc_rf _), rfl, trivial⟩ (Nat.le_of_ble_eq_true rfl) (ls := [some (va_rf (some a0)), some (va_rf x1), some (.int x2)]) rfl ?_
  intro X hX hR hTb hd1 hd2 hl hg hnm
  subst hl
  subst hg
  have hd : zDep X d := ⟨hd1, hd2⟩
  refine z_aload_n hX dX21_init_0 rfl (i := 0) rfl ?_
  refine z_aload_n hX dX21_init_1 rfl (i := 1) rfl ?_
  obtain ⟨a3, f4, r5, g6, m7, l8, hw⟩ := hw
  refine z_putF hX zc26 (k := 10) dX21_init_2 (Nat.le_of_ble_eq_true rfl) q2200 rfl hnm rfl (zn_o _ _) (zf_o _ _) r5 g6 m7 l8 (z_nm (fun s1 e2 => ?_))
  have hw := hw s1 e2
  refine z_aload_n hX dX21_init_5 rfl (i := 0) rfl ?_
  refine z_aload_n hX dX21_init_6 rfl (i := 1) rfl ?_
  refine z_iload_n hX dX21_init_7 rfl (i := 2) rfl ?_
  obtain ⟨a12, r13, hw⟩ := hw
  refine z_invI hX hd r13 dX21_init_8 (hC 310 _ zm310 _ _ _ _ hw) q2196 q1091 rfl zh13 q1092 q142 zn310 rfl (Nat.le_of_ble_eq_true rfl) (st := []) rfl (zcs8 (Nat.le_of_ble_eq_true rfl)) rfl (zkV (fun s10 hw => ?_)) (zout hX hR hTb)
  exact z_return hX hR dX21_init_11 hw
abbrev cX21_parse : ByteArray := prog_16_method_2_code
def yX21_parse : MethodName := ⟨RX21, "parse", "()LPackingDuel$Test;"⟩
def dkwX21_parse_2 : List UInt8 := [178, 0, 39, 166, 0, 7, 4, 167, 0, 4, 3, 4, 182, 0, 27, 43, 176]
abbrev dktX21_parse_2 : List UInt8 := dkwX21_parse_2 ++ []
def dkwX21_parse_1 : List UInt8 := [153, 0, 7, 4, 167, 0, 4, 3, 4, 182, 0, 27, 42, 182, 0, 31, 76, 42, 42, 180, 0, 35]
abbrev dktX21_parse_1 : List UInt8 := dkwX21_parse_1 ++ dktX21_parse_2
def dkwX21_parse_0 : List UInt8 := [42, 42, 18, 15, 182, 0, 17, 181, 0, 21, 42, 42, 180, 0, 21, 154, 0, 12, 42, 18, 25, 182, 0, 17]
abbrev dktX21_parse_0 : List UInt8 := dkwX21_parse_0 ++ dktX21_parse_1
theorem dksX21_parse_0 : cX21_parse.data.toList.drop 0 = dktX21_parse_0 := by decide +kernel
theorem dksX21_parse_1 : cX21_parse.data.toList.drop 24 = dktX21_parse_1 := dk_seg dksX21_parse_0 24 rfl rfl
theorem dksX21_parse_2 : cX21_parse.data.toList.drop 46 = dktX21_parse_2 := dk_seg dksX21_parse_1 22 rfl rfl
theorem dX21_parse_0 : decode cX21_parse 0 = .ok (.aload_n 0, 1) := dk_42 (dk_at dksX21_parse_0 0 rfl rfl)
theorem dX21_parse_1 : decode cX21_parse 1 = .ok (.aload_n 0, 1) := dk_42 (dk_at dksX21_parse_0 1 rfl rfl)
theorem dX21_parse_2 : decode cX21_parse 2 = .ok (.ldc 15, 2) := dk_18 15 (dk_at dksX21_parse_0 2 rfl rfl)
theorem dX21_parse_4 : decode cX21_parse 4 = .ok (.invokevirtual 17, 3) := dk_182 0 17 (dk_at dksX21_parse_0 4 rfl rfl)
theorem dX21_parse_7 : decode cX21_parse 7 = .ok (.putfield 21, 3) := dk_181 0 21 (dk_at dksX21_parse_0 7 rfl rfl)
theorem dX21_parse_10 : decode cX21_parse 10 = .ok (.aload_n 0, 1) := dk_42 (dk_at dksX21_parse_0 10 rfl rfl)
theorem dX21_parse_11 : decode cX21_parse 11 = .ok (.aload_n 0, 1) := dk_42 (dk_at dksX21_parse_0 11 rfl rfl)
theorem dX21_parse_12 : decode cX21_parse 12 = .ok (.getfield 21, 3) := dk_180 0 21 (dk_at dksX21_parse_0 12 rfl rfl)
theorem dX21_parse_15 : decode cX21_parse 15 = .ok (.ifCond .ne 12, 3) := dk_154 0 12 (dk_at dksX21_parse_0 15 rfl rfl)
theorem dX21_parse_18 : decode cX21_parse 18 = .ok (.aload_n 0, 1) := dk_42 (dk_at dksX21_parse_0 18 rfl rfl)
theorem dX21_parse_19 : decode cX21_parse 19 = .ok (.ldc 25, 2) := dk_18 25 (dk_at dksX21_parse_0 19 rfl rfl)
theorem dX21_parse_21 : decode cX21_parse 21 = .ok (.invokevirtual 17, 3) := dk_182 0 17 (dk_at dksX21_parse_0 21 rfl rfl)
theorem dX21_parse_24 : decode cX21_parse 24 = .ok (.ifCond .eq 7, 3) := dk_153 0 7 (dk_at dksX21_parse_1 0 rfl rfl)
theorem dX21_parse_27 : decode cX21_parse 27 = .ok (.iconst 1, 1) := dk_4 (dk_at dksX21_parse_1 3 rfl rfl)
theorem dX21_parse_28 : decode cX21_parse 28 = .ok (.goto 4, 3) := dk_167 0 4 (dk_at dksX21_parse_1 4 rfl rfl)
theorem dX21_parse_31 : decode cX21_parse 31 = .ok (.iconst 0, 1) := dk_3 (dk_at dksX21_parse_1 7 rfl rfl)
theorem dX21_parse_32 : decode cX21_parse 32 = .ok (.iconst 1, 1) := dk_4 (dk_at dksX21_parse_1 8 rfl rfl)
theorem dX21_parse_33 : decode cX21_parse 33 = .ok (.invokevirtual 27, 3) := dk_182 0 27 (dk_at dksX21_parse_1 9 rfl rfl)
theorem dX21_parse_36 : decode cX21_parse 36 = .ok (.aload_n 0, 1) := dk_42 (dk_at dksX21_parse_1 12 rfl rfl)
theorem dX21_parse_37 : decode cX21_parse 37 = .ok (.invokevirtual 31, 3) := dk_182 0 31 (dk_at dksX21_parse_1 13 rfl rfl)
theorem dX21_parse_40 : decode cX21_parse 40 = .ok (.astore_n 1, 1) := dk_76 (dk_at dksX21_parse_1 16 rfl rfl)
theorem dX21_parse_41 : decode cX21_parse 41 = .ok (.aload_n 0, 1) := dk_42 (dk_at dksX21_parse_1 17 rfl rfl)
theorem dX21_parse_42 : decode cX21_parse 42 = .ok (.aload_n 0, 1) := dk_42 (dk_at dksX21_parse_1 18 rfl rfl)
theorem dX21_parse_43 : decode cX21_parse 43 = .ok (.getfield 35, 3) := dk_180 0 35 (dk_at dksX21_parse_1 19 rfl rfl)
theorem dX21_parse_46 : decode cX21_parse 46 = .ok (.getstatic 39, 3) := dk_178 0 39 (dk_at dksX21_parse_2 0 rfl rfl)
theorem dX21_parse_49 : decode cX21_parse 49 = .ok (.if_acmp .ne 7, 3) := dk_166 0 7 (dk_at dksX21_parse_2 3 rfl rfl)
theorem dX21_parse_52 : decode cX21_parse 52 = .ok (.iconst 1, 1) := dk_4 (dk_at dksX21_parse_2 6 rfl rfl)
theorem dX21_parse_53 : decode cX21_parse 53 = .ok (.goto 4, 3) := dk_167 0 4 (dk_at dksX21_parse_2 7 rfl rfl)
theorem dX21_parse_56 : decode cX21_parse 56 = .ok (.iconst 0, 1) := dk_3 (dk_at dksX21_parse_2 10 rfl rfl)
theorem dX21_parse_57 : decode cX21_parse 57 = .ok (.iconst 1, 1) := dk_4 (dk_at dksX21_parse_2 11 rfl rfl)
theorem dX21_parse_58 : decode cX21_parse 58 = .ok (.invokevirtual 27, 3) := dk_182 0 27 (dk_at dksX21_parse_2 12 rfl rfl)
theorem dX21_parse_61 : decode cX21_parse 61 = .ok (.aload_n 1, 1) := dk_43 (dk_at dksX21_parse_2 15 rfl rfl)
theorem dX21_parse_62 : decode cX21_parse 62 = .ok (.areturn, 1) := dk_176 (dk_at dksX21_parse_2 16 rfl rfl)
/-- PackingDuel$QueryParser.parse()LPackingDuel$Test; -/
def zb514 (G : zPg) (C : zO) (args : List Value) (Q : zQ) (Y : zY) (σ : zS) : Prop := ∃ (a0 : Nat), args = [.ref a0] ∧ (zrc σ (some a0) 26 (fun a4 => zcl C 315 [.ref a4, va_rf (some (G.2 35))] Y σ (zqI (fun v1 s2 => (zbool v1 ∧ zput s2 G.1 (some a0) 26 8 (.int v1) (fun s8 => zgI s8 (some a0) 26 8 (fun v17 => zJ (fun (p23 : Int32) (s24 : zS) => zrc s24 (some a0) 26 (fun a29 => zcl C 317 [.ref a29, .int p23, .int (1 : Int32)] Y s24 (zqV (fun s27 => zrc s27 (some a0) 26 (fun a36 => zcl C 515 [.ref a36] Y s27 (zqR (fun v33 s34 => zgR s34 (some a0) 26 6 (fun v40 => zJ (fun (p46 : Int32) (s47 : zS) => zrc s47 (some a0) 26 (fun a52 => zcl C 317 [.ref a52, .int p46, .int (1 : Int32)] Y s47 (zqV (fun s50 => Q (some (va_rf v33)) s50)))) (fun (j48 : Int32 → zS → Prop) => ((¬ v40 = (some (G.2 53))) → j48 (0 : Int32) s34) ∧ ((v40 = (some (G.2 53))) → j48 (1 : Int32) s34)))))))))) (fun (j25 : Int32 → zS → Prop) => zJ (fun  (s57 : zS) => j25 (1 : Int32) s57) (fun (j58 : zS → Prop) => ((¬ v17 = 0) → j58 s8) ∧ ((v17 = 0) → zrc s8 (some a0) 26 (fun a63 => zcl C 315 [.ref a63, va_rf (some (G.2 36))] Y s8 (zqI (fun v60 s61 => ((v60 = 0) → j25 (0 : Int32) s61) ∧ ((¬ v60 = 0) → j58 s61))))))))))))))
set_option maxHeartbeats 4000000 in
theorem wk514 {l : Launch} {g : zG} {d : Nat} {C : zO} (hG : zGk g) (hC : zSound l g d C) {args : List Value} {Q : zQ} {Y : zY} {σ : zS} (hw : zb514 (zpg g) C args Q Y σ) : zMet l g (d + 1) (⟨"PackingDuel$QueryParser", "parse", "()LPackingDuel$Test;"⟩, Cond.code ⟨"PackingDuel$QueryParser", "parse", "()LPackingDuel$Test;"⟩ prog_16_method_2_code 2 (Option.some (FieldType.object "PackingDuel$Test"))) args σ Q Y := by
  obtain ⟨a0, rfl, hw⟩ := hw
  refine zof hG (by decide +kernel) [false] ⟨rfl, trivial⟩ (Nat.le_of_ble_eq_true rfl) (ls := [some (va_rf (some a0)), none]) rfl ?_
  intro X hX hR hTb hd1 hd2 hl hg hnm
  subst hl
  subst hg
  have hd : zDep X d := ⟨hd1, hd2⟩
  refine z_aload_n hX dX21_parse_0 rfl (i := 0) rfl ?_
  refine z_aload_n hX dX21_parse_1 rfl (i := 0) rfl ?_
  refine z_ldcS hX (tx := "first") (j := 35) dX21_parse_2 (List.mem_of_getElem? (i := 35) rfl) ?_
  obtain ⟨a4, f5, r6, m7, hw⟩ := hw
  refine z_invVU hX hd r6 (ci := 26) rfl rfl m7 dX21_parse_4 (hC 315 _ zm315 _ _ _ _ hw) q2221 q2222 (z_declA hX q1417) q1419 q2223 zh13 q1420 q142 (zn315) rfl (Nat.le_of_ble_eq_true rfl) (st := [va_rf (some a0)]) rfl (zcs8 (Nat.le_of_ble_eq_true rfl)) rfl (zkI (fun v1 s2 hw => ?_)) (zout hX hR hTb)
  obtain ⟨b16, hw⟩ := hw
  obtain ⟨a10, f11, r12, g13, m14, l15, hw⟩ := hw
  refine z_put hX zc26 (k := 8) dX21_parse_7 (Nat.le_of_ble_eq_true rfl) (zlk hX q2197) rfl (zn_z b16) (zf_z b16) r12 g13 m14 l15 (z_nm (fun s8 e9 => ?_))
  have hw := hw s8 e9
  refine z_aload_n hX dX21_parse_10 rfl (i := 0) rfl ?_
  refine z_aload_n hX dX21_parse_11 rfl (i := 0) rfl ?_
  obtain ⟨a18, f19, v17, r20, m21, e22, hw⟩ := hw
  refine z_get hX zc26 (k := 8) dX21_parse_12 (Nat.le_of_ble_eq_true rfl) (zlk hX q2197) r20 m21 e22 ?_
  refine zJ_w (P := fun (j : Int32 → zS → Prop) => ∀ (p23 : Int32) (s24 : zS), j p23 s24 → zW X s24 32 [some (va_rf (some a0)), none] [.int p23, va_rf (some a0)]) hw (fun p23 s24 hw => ?_) (fun j25 hj25 hw => ?_)
  · refine z_iconst hX (v := (1 : Int32)) dX21_parse_32 (by decide) ?_
    obtain ⟨a29, f30, r31, m32, hw⟩ := hw
    refine z_invVU hX hd r31 (ci := 26) rfl rfl m32 dX21_parse_33 (hC 317 _ zm317 _ _ _ _ hw) q2225 q2226 (z_declA hX q1439) q1441 q2227 zh13 q1442 q142 (zn317) rfl (Nat.le_of_ble_eq_true rfl) (st := []) rfl (zcs8 (Nat.le_of_ble_eq_true rfl)) rfl (zkV (fun s27 hw => ?_)) (zout hX hR hTb)
    refine z_aload_n hX dX21_parse_36 rfl (i := 0) rfl ?_
    obtain ⟨a36, f37, r38, m39, hw⟩ := hw
    refine z_invV hX hd r38 (ci := 26) rfl rfl m39 dX21_parse_37 (hC 515 _ zm515 _ _ _ _ hw) q2228 q2230 qs34 zh47 q2231 q180 zn515 rfl (Nat.le_of_ble_eq_true rfl) (st := []) rfl (zcs8 (Nat.le_of_ble_eq_true rfl)) rfl (zkR (fun v33 s34 hw => ?_)) (zout hX hR hTb)
    refine z_astore_n hX dX21_parse_40 rfl (i := 1) (Nat.le_of_ble_eq_true rfl) (zc_rf _) (ls2 := [some (va_rf (some a0)), some (va_rf v33)]) rfl ?_
    refine z_aload_n hX dX21_parse_41 rfl (i := 0) rfl ?_
    refine z_aload_n hX dX21_parse_42 rfl (i := 0) rfl ?_
    obtain ⟨a41, f42, v40, r43, m44, e45, hw⟩ := hw
    refine z_get hX zc26 (k := 6) dX21_parse_43 (Nat.le_of_ble_eq_true rfl) (zlkS hX "PackingDuel$QueryParser" q1383 q1384) r43 m44 e45 ?_
    refine z_gets hX dX21_parse_46 (List.mem_of_getElem? (i := 3) rfl) q2390 rfl ?_
    show zW _ _ _ _ (va_rf (some (X.g.2.2.2 53)) :: _)
    refine zJ_w (P := fun (j : Int32 → zS → Prop) => ∀ (p46 : Int32) (s47 : zS), j p46 s47 → zW X s47 57 [none, some (va_rf v33)] [.int p46, va_rf (some a0)]) hw (fun p46 s47 hw => ?_) (fun j48 hj48 hw => ?_)
    · refine z_iconst hX (v := (1 : Int32)) dX21_parse_57 (by decide) ?_
      obtain ⟨a52, f53, r54, m55, hw⟩ := hw
      refine z_invVU hX hd r54 (ci := 26) rfl rfl m55 dX21_parse_58 (hC 317 _ zm317 _ _ _ _ hw) q2225 q2226 (z_declA hX q1439) q1441 q2227 zh13 q1442 q142 (zn317) rfl (Nat.le_of_ble_eq_true rfl) (st := []) rfl (zcs8 (Nat.le_of_ble_eq_true rfl)) rfl (zkV (fun s50 hw => ?_)) (zout hX hR hTb)
      refine z_aload_n hX dX21_parse_61 rfl (i := 1) rfl ?_
      exact z_areturn hX hR dX21_parse_62 (Or.inl ⟨_, rfl⟩) hw
    · refine z_acmp_ne hX dX21_parse_49 (tgt := 56) rfl (fun c56 => ?_) (fun c56 => ?_)
      · have hw := hw.1 c56
        refine z_iconst hX (v := (0 : Int32)) dX21_parse_56 (by decide) ?_
        refine z_sub (ls' := [none, some (va_rf v33)]) (zsN (zsS (zs0))) ?_
        exact hj48 _ _ hw
      · have hw := hw.2 c56
        refine z_iconst hX (v := (1 : Int32)) dX21_parse_52 (by decide) ?_
        refine z_goto hX dX21_parse_53 (tgt := 57) rfl ?_
        refine z_sub (ls' := [none, some (va_rf v33)]) (zsN (zsS (zs0))) ?_
        exact hj48 _ _ hw
  · refine zJ_w (P := fun (j : zS → Prop) => ∀  (s57 : zS), j  s57 → zW X s57 27 [some (va_rf (some a0)), none] [va_rf (some a0)]) hw (fun  s57 hw => ?_) (fun j58 hj58 hw => ?_)
    · refine z_iconst hX (v := (1 : Int32)) dX21_parse_27 (by decide) ?_
      refine z_goto hX dX21_parse_28 (tgt := 32) rfl ?_
      exact hj25 _ _ hw
    · refine z_if_ne hX dX21_parse_15 (tgt := 27) rfl (fun c59 => ?_) (fun c59 => ?_)
      · have hw := hw.1 c59
        exact hj58  _ hw
      · have hw := hw.2 c59
        refine z_aload_n hX dX21_parse_18 rfl (i := 0) rfl ?_
        refine z_ldcS hX (tx := "many") (j := 36) dX21_parse_19 (List.mem_of_getElem? (i := 36) rfl) ?_
        obtain ⟨a63, f64, r65, m66, hw⟩ := hw
        refine z_invVU hX hd r65 (ci := 26) rfl rfl m66 dX21_parse_21 (hC 315 _ zm315 _ _ _ _ hw) q2221 q2222 (z_declA hX q1417) q1419 q2223 zh13 q1420 q142 (zn315) rfl (Nat.le_of_ble_eq_true rfl) (st := [va_rf (some a0)]) rfl (zcs8 (Nat.le_of_ble_eq_true rfl)) rfl (zkI (fun v60 s61 hw => ?_)) (zout hX hR hTb)
        refine z_if_eq hX dX21_parse_24 (tgt := 31) rfl (fun c67 => ?_) (fun c67 => ?_)
        · have hw := hw.1 c67
          refine z_iconst hX (v := (0 : Int32)) dX21_parse_31 (by decide) ?_
          exact hj25 _ _ hw
        · have hw := hw.2 c67
          exact hj58  _ hw
abbrev cX21_test : ByteArray := prog_16_method_3_code
def yX21_test : MethodName := ⟨RX21, "test", "()LPackingDuel$Test;"⟩
def dkwX21_test_1 : List UInt8 := [154, 255, 241, 187, 0, 58, 89, 43, 4, 183, 0, 60, 176]
abbrev dktX21_test_1 : List UInt8 := dkwX21_test_1 ++ []
def dkwX21_test_0 : List UInt8 := [187, 0, 44, 89, 183, 0, 46, 76, 43, 42, 182, 0, 49, 182, 0, 52, 87, 42, 18, 56, 182, 0, 17]
abbrev dktX21_test_0 : List UInt8 := dkwX21_test_0 ++ dktX21_test_1
theorem dksX21_test_0 : cX21_test.data.toList.drop 0 = dktX21_test_0 := by decide +kernel
theorem dksX21_test_1 : cX21_test.data.toList.drop 23 = dktX21_test_1 := dk_seg dksX21_test_0 23 rfl rfl
theorem dX21_test_0 : decode cX21_test 0 = .ok (.new 44, 3) := dk_187 0 44 (dk_at dksX21_test_0 0 rfl rfl)
theorem dX21_test_3 : decode cX21_test 3 = .ok (.dup, 1) := dk_89 (dk_at dksX21_test_0 3 rfl rfl)
theorem dX21_test_4 : decode cX21_test 4 = .ok (.invokespecial 46, 3) := dk_183 0 46 (dk_at dksX21_test_0 4 rfl rfl)
theorem dX21_test_7 : decode cX21_test 7 = .ok (.astore_n 1, 1) := dk_76 (dk_at dksX21_test_0 7 rfl rfl)
theorem dX21_test_8 : decode cX21_test 8 = .ok (.aload_n 1, 1) := dk_43 (dk_at dksX21_test_0 8 rfl rfl)
theorem dX21_test_9 : decode cX21_test 9 = .ok (.aload_n 0, 1) := dk_42 (dk_at dksX21_test_0 9 rfl rfl)
theorem dX21_test_10 : decode cX21_test 10 = .ok (.invokevirtual 49, 3) := dk_182 0 49 (dk_at dksX21_test_0 10 rfl rfl)
theorem dX21_test_13 : decode cX21_test 13 = .ok (.invokevirtual 52, 3) := dk_182 0 52 (dk_at dksX21_test_0 13 rfl rfl)
theorem dX21_test_16 : decode cX21_test 16 = .ok (.pop, 1) := dk_87 (dk_at dksX21_test_0 16 rfl rfl)
theorem dX21_test_17 : decode cX21_test 17 = .ok (.aload_n 0, 1) := dk_42 (dk_at dksX21_test_0 17 rfl rfl)
theorem dX21_test_18 : decode cX21_test 18 = .ok (.ldc 56, 2) := dk_18 56 (dk_at dksX21_test_0 18 rfl rfl)
theorem dX21_test_20 : decode cX21_test 20 = .ok (.invokevirtual 17, 3) := dk_182 0 17 (dk_at dksX21_test_0 20 rfl rfl)
theorem dX21_test_23 : decode cX21_test 23 = .ok (.ifCond .ne (-15), 3) := dk_154 255 241 (dk_at dksX21_test_1 0 rfl rfl)
theorem dX21_test_26 : decode cX21_test 26 = .ok (.new 58, 3) := dk_187 0 58 (dk_at dksX21_test_1 3 rfl rfl)
theorem dX21_test_29 : decode cX21_test 29 = .ok (.dup, 1) := dk_89 (dk_at dksX21_test_1 6 rfl rfl)
theorem dX21_test_30 : decode cX21_test 30 = .ok (.aload_n 1, 1) := dk_43 (dk_at dksX21_test_1 7 rfl rfl)
theorem dX21_test_31 : decode cX21_test 31 = .ok (.iconst 1, 1) := dk_4 (dk_at dksX21_test_1 8 rfl rfl)
theorem dX21_test_32 : decode cX21_test 32 = .ok (.invokespecial 60, 3) := dk_183 0 60 (dk_at dksX21_test_1 9 rfl rfl)
theorem dX21_test_35 : decode cX21_test 35 = .ok (.areturn, 1) := dk_176 (dk_at dksX21_test_1 12 rfl rfl)
/-- PackingDuel$QueryParser.test()LPackingDuel$Test; -/
def zb515 (G : zPg) (C : zO) (args : List Value) (Q : zQ) (Y : zY) (σ : zS) : Prop := ∃ (a0 : Nat), args = [.ref a0] ∧ (znew σ 2 [.int 0, va_rf none, .int 0] 3 (fun s1 => (∃ a7, (some σ.2.1) = some a7 ∧ zcl C 127 [.ref a7] Y s1 (zqV (fun s5 => ∃ n, zIt (fun  _ => False) (fun rec10  (s9 : zS) => zrc s9 (some a0) 26 (fun a14 => zcl C 516 [.ref a14] Y s9 (zqR (fun v11 s12 => zrc s12 (some σ.2.1) 2 (fun a21 => zcl C 131 [.ref a21, va_rf v11] Y s12 (zqI (fun v18 s19 => zrc s19 (some a0) 26 (fun a28 => zcl C 315 [.ref a28, va_rf (some (G.2 39))] Y s19 (zqI (fun v25 s26 => ((¬ v25 = 0) → rec10 s26) ∧ ((v25 = 0) → znew s26 29 [va_rf none, .int 0] 2 (fun s33 => (∃ a39, (some s26.2.1) = some a39 ∧ zcl C 526 [.ref a39, va_rf (some σ.2.1), .int (1 : Int32)] Y s33 (zqV (fun s37 => Q (some (va_rf (some s26.2.1))) s37))))))))))))))) n  s5)))))
set_option maxHeartbeats 4000000 in
theorem wk515 {l : Launch} {g : zG} {d : Nat} {C : zO} (hG : zGk g) (hC : zSound l g d C) {args : List Value} {Q : zQ} {Y : zY} {σ : zS} (hw : zb515 (zpg g) C args Q Y σ) : zMet l g (d + 1) (⟨"PackingDuel$QueryParser", "test", "()LPackingDuel$Test;"⟩, Cond.code ⟨"PackingDuel$QueryParser", "test", "()LPackingDuel$Test;"⟩ prog_16_method_3_code 2 (Option.some (FieldType.object "PackingDuel$Test"))) args σ Q Y := by
  obtain ⟨a0, rfl, hw⟩ := hw
  refine zof hG (by decide +kernel) [false] ⟨rfl, trivial⟩ (Nat.le_of_ble_eq_true rfl) (ls := [some (va_rf (some a0)), none]) rfl ?_
  intro X hX hR hTb hd1 hd2 hl hg hnm
  subst hl
  subst hg
  have hd : zDep X d := ⟨hd1, hd2⟩
  refine z_new hX zc2 dX21_test_0 q2232 q200 q134 (fs := [.int 0, va_rf none, .int 0]) (fun j hj => by have hj : j < 3 := hj; exact zdf2 j hj) hw.1 hw.2.1 (fun z2 => z_nm (fun s1 e3 => ?_))
  have hw := hw.2.2 z2 s1 e3
  refine z_dup hX dX21_test_3 (zc_rf _) ?_
  obtain ⟨a7, r8, hw⟩ := hw
  refine z_invI hX hd r8 dX21_test_4 (hC 127 _ zm127 _ _ _ _ hw) q2233 q202 rfl zh5 q203 q134 zn127 rfl (Nat.le_of_ble_eq_true rfl) (st := [va_rf (some σ.2.1)]) rfl (zcs8 (Nat.le_of_ble_eq_true rfl)) rfl (zkV (fun s5 hw => ?_)) (zout hX hR hTb)
  refine z_astore_n hX dX21_test_7 rfl (i := 1) (Nat.le_of_ble_eq_true rfl) (zc_rf _) (ls2 := [some (va_rf (some a0)), some (va_rf (some σ.2.1))]) rfl ?_
  obtain ⟨n41, hw⟩ := hw
  refine zIt_w (P := fun (j : zS → Prop) => ∀  (s9 : zS), j  s9 → zW X s9 8 [some (va_rf (some a0)), some (va_rf (some σ.2.1))] []) (fun  _ h => h.elim) (fun rec10 hrec10  s9 hw => ?_) n41  _ hw
  refine z_aload_n hX dX21_test_8 rfl (i := 1) rfl ?_
  refine z_aload_n hX dX21_test_9 rfl (i := 0) rfl ?_
  obtain ⟨a14, f15, r16, m17, hw⟩ := hw
  refine z_invV hX hd r16 (ci := 26) rfl rfl m17 dX21_test_10 (hC 516 _ zm516 _ _ _ _ hw) q2234 q2236 qs35 zh47 q2237 q180 zn516 rfl (Nat.le_of_ble_eq_true rfl) (st := [va_rf (some σ.2.1)]) rfl (zcs8 (Nat.le_of_ble_eq_true rfl)) rfl (zkR (fun v11 s12 hw => ?_)) (zout hX hR hTb)
  obtain ⟨a21, f22, r23, m24, hw⟩ := hw
  refine z_invV hX hd r23 (ci := 2) rfl rfl m24 dX21_test_13 (hC 131 _ zm131 _ _ _ _ hw) q2374 q765 q766 zh5 q767 q134 zn131 rfl (Nat.le_of_ble_eq_true rfl) (st := []) rfl (zcs8 (Nat.le_of_ble_eq_true rfl)) rfl (zkI (fun v18 s19 hw => ?_)) (zout hX hR hTb)
  refine z_pop hX dX21_test_16 rfl ?_
  refine z_aload_n hX dX21_test_17 rfl (i := 0) rfl ?_
  refine z_ldcS hX (tx := "or") (j := 39) dX21_test_18 (List.mem_of_getElem? (i := 39) rfl) ?_
  obtain ⟨a28, f29, r30, m31, hw⟩ := hw
  refine z_invVU hX hd r30 (ci := 26) rfl rfl m31 dX21_test_20 (hC 315 _ zm315 _ _ _ _ hw) q2221 q2222 (z_declA hX q1417) q1419 q2223 zh13 q1420 q142 (zn315) rfl (Nat.le_of_ble_eq_true rfl) (st := []) rfl (zcs8 (Nat.le_of_ble_eq_true rfl)) rfl (zkI (fun v25 s26 hw => ?_)) (zout hX hR hTb)
  refine z_if_ne hX dX21_test_23 (tgt := 8) rfl (fun c32 => ?_) (fun c32 => ?_)
  · have hw := hw.1 c32
    exact hrec10  _ hw
  · have hw := hw.2 c32
    refine z_new hX zc29 dX21_test_26 q2376 q2377 q184 (fs := [va_rf none, .int 0]) (fun j hj => by have hj : j < 2 := hj; exact zdf29 j hj) hw.1 hw.2.1 (fun z34 => z_nm (fun s33 e35 => ?_))
    have hw := hw.2.2 z34 s33 e35
    refine z_dup hX dX21_test_29 (zc_rf _) ?_
    refine z_aload_n hX dX21_test_30 rfl (i := 1) rfl ?_
    refine z_iconst hX (v := (1 : Int32)) dX21_test_31 (by decide) ?_
    obtain ⟨a39, r40, hw⟩ := hw
    refine z_invI hX hd r40 dX21_test_32 (hC 526 _ zm526 _ _ _ _ hw) q2378 q2379 rfl zh51 q2380 q184 zn526 rfl (Nat.le_of_ble_eq_true rfl) (st := [va_rf (some s26.2.1)]) rfl (zcs8 (Nat.le_of_ble_eq_true rfl)) rfl (zkV (fun s37 hw => ?_)) (zout hX hR hTb)
    exact z_areturn hX hR dX21_test_35 (Or.inl ⟨_, rfl⟩) hw
abbrev cX21_conjunction : ByteArray := prog_16_method_4_code
def yX21_conjunction : MethodName := ⟨RX21, "conjunction", "()LPackingDuel$Test;"⟩
def dkwX21_conjunction_1 : List UInt8 := [154, 255, 241, 187, 0, 58, 89, 43, 3, 183, 0, 60, 176]
abbrev dktX21_conjunction_1 : List UInt8 := dkwX21_conjunction_1 ++ []
def dkwX21_conjunction_0 : List UInt8 := [187, 0, 44, 89, 183, 0, 46, 76, 43, 42, 182, 0, 63, 182, 0, 52, 87, 42, 18, 66, 182, 0, 17]
abbrev dktX21_conjunction_0 : List UInt8 := dkwX21_conjunction_0 ++ dktX21_conjunction_1
theorem dksX21_conjunction_0 : cX21_conjunction.data.toList.drop 0 = dktX21_conjunction_0 := by decide +kernel
theorem dksX21_conjunction_1 : cX21_conjunction.data.toList.drop 23 = dktX21_conjunction_1 := dk_seg dksX21_conjunction_0 23 rfl rfl
theorem dX21_conjunction_0 : decode cX21_conjunction 0 = .ok (.new 44, 3) := dk_187 0 44 (dk_at dksX21_conjunction_0 0 rfl rfl)
theorem dX21_conjunction_3 : decode cX21_conjunction 3 = .ok (.dup, 1) := dk_89 (dk_at dksX21_conjunction_0 3 rfl rfl)
theorem dX21_conjunction_4 : decode cX21_conjunction 4 = .ok (.invokespecial 46, 3) := dk_183 0 46 (dk_at dksX21_conjunction_0 4 rfl rfl)
theorem dX21_conjunction_7 : decode cX21_conjunction 7 = .ok (.astore_n 1, 1) := dk_76 (dk_at dksX21_conjunction_0 7 rfl rfl)
theorem dX21_conjunction_8 : decode cX21_conjunction 8 = .ok (.aload_n 1, 1) := dk_43 (dk_at dksX21_conjunction_0 8 rfl rfl)
theorem dX21_conjunction_9 : decode cX21_conjunction 9 = .ok (.aload_n 0, 1) := dk_42 (dk_at dksX21_conjunction_0 9 rfl rfl)
theorem dX21_conjunction_10 : decode cX21_conjunction 10 = .ok (.invokevirtual 63, 3) := dk_182 0 63 (dk_at dksX21_conjunction_0 10 rfl rfl)
theorem dX21_conjunction_13 : decode cX21_conjunction 13 = .ok (.invokevirtual 52, 3) := dk_182 0 52 (dk_at dksX21_conjunction_0 13 rfl rfl)
theorem dX21_conjunction_16 : decode cX21_conjunction 16 = .ok (.pop, 1) := dk_87 (dk_at dksX21_conjunction_0 16 rfl rfl)
theorem dX21_conjunction_17 : decode cX21_conjunction 17 = .ok (.aload_n 0, 1) := dk_42 (dk_at dksX21_conjunction_0 17 rfl rfl)
theorem dX21_conjunction_18 : decode cX21_conjunction 18 = .ok (.ldc 66, 2) := dk_18 66 (dk_at dksX21_conjunction_0 18 rfl rfl)
theorem dX21_conjunction_20 : decode cX21_conjunction 20 = .ok (.invokevirtual 17, 3) := dk_182 0 17 (dk_at dksX21_conjunction_0 20 rfl rfl)
theorem dX21_conjunction_23 : decode cX21_conjunction 23 = .ok (.ifCond .ne (-15), 3) := dk_154 255 241 (dk_at dksX21_conjunction_1 0 rfl rfl)
theorem dX21_conjunction_26 : decode cX21_conjunction 26 = .ok (.new 58, 3) := dk_187 0 58 (dk_at dksX21_conjunction_1 3 rfl rfl)
theorem dX21_conjunction_29 : decode cX21_conjunction 29 = .ok (.dup, 1) := dk_89 (dk_at dksX21_conjunction_1 6 rfl rfl)
theorem dX21_conjunction_30 : decode cX21_conjunction 30 = .ok (.aload_n 1, 1) := dk_43 (dk_at dksX21_conjunction_1 7 rfl rfl)
theorem dX21_conjunction_31 : decode cX21_conjunction 31 = .ok (.iconst 0, 1) := dk_3 (dk_at dksX21_conjunction_1 8 rfl rfl)
theorem dX21_conjunction_32 : decode cX21_conjunction 32 = .ok (.invokespecial 60, 3) := dk_183 0 60 (dk_at dksX21_conjunction_1 9 rfl rfl)
theorem dX21_conjunction_35 : decode cX21_conjunction 35 = .ok (.areturn, 1) := dk_176 (dk_at dksX21_conjunction_1 12 rfl rfl)
/-- PackingDuel$QueryParser.conjunction()LPackingDuel$Test; -/
def zb516 (G : zPg) (C : zO) (args : List Value) (Q : zQ) (Y : zY) (σ : zS) : Prop := ∃ (a0 : Nat), args = [.ref a0] ∧ (znew σ 2 [.int 0, va_rf none, .int 0] 3 (fun s1 => (∃ a7, (some σ.2.1) = some a7 ∧ zcl C 127 [.ref a7] Y s1 (zqV (fun s5 => ∃ n, zIt (fun  _ => False) (fun rec10  (s9 : zS) => zrc s9 (some a0) 26 (fun a14 => zcl C 517 [.ref a14] Y s9 (zqR (fun v11 s12 => zrc s12 (some σ.2.1) 2 (fun a21 => zcl C 131 [.ref a21, va_rf v11] Y s12 (zqI (fun v18 s19 => zrc s19 (some a0) 26 (fun a28 => zcl C 315 [.ref a28, va_rf (some (G.2 38))] Y s19 (zqI (fun v25 s26 => ((¬ v25 = 0) → rec10 s26) ∧ ((v25 = 0) → znew s26 29 [va_rf none, .int 0] 2 (fun s33 => (∃ a39, (some s26.2.1) = some a39 ∧ zcl C 526 [.ref a39, va_rf (some σ.2.1), .int (0 : Int32)] Y s33 (zqV (fun s37 => Q (some (va_rf (some s26.2.1))) s37))))))))))))))) n  s5)))))
set_option maxHeartbeats 4000000 in
theorem wk516 {l : Launch} {g : zG} {d : Nat} {C : zO} (hG : zGk g) (hC : zSound l g d C) {args : List Value} {Q : zQ} {Y : zY} {σ : zS} (hw : zb516 (zpg g) C args Q Y σ) : zMet l g (d + 1) (⟨"PackingDuel$QueryParser", "conjunction", "()LPackingDuel$Test;"⟩, Cond.code ⟨"PackingDuel$QueryParser", "conjunction", "()LPackingDuel$Test;"⟩ prog_16_method_4_code 2 (Option.some (FieldType.object "PackingDuel$Test"))) args σ Q Y := by
  obtain ⟨a0, rfl, hw⟩ := hw
  refine zof hG (by decide +kernel) [false] ⟨rfl, trivial⟩ (Nat.le_of_ble_eq_true rfl) (ls := [some (va_rf (some a0)), none]) rfl ?_
  intro X hX hR hTb hd1 hd2 hl hg hnm
  subst hl
  subst hg
  have hd : zDep X d := ⟨hd1, hd2⟩
  refine z_new hX zc2 dX21_conjunction_0 q2232 q200 q134 (fs := [.int 0, va_rf none, .int 0]) (fun j hj => by have hj : j < 3 := hj; exact zdf2 j hj) hw.1 hw.2.1 (fun z2 => z_nm (fun s1 e3 => ?_))
  have hw := hw.2.2 z2 s1 e3
  refine z_dup hX dX21_conjunction_3 (zc_rf _) ?_
  obtain ⟨a7, r8, hw⟩ := hw
  refine z_invI hX hd r8 dX21_conjunction_4 (hC 127 _ zm127 _ _ _ _ hw) q2233 q202 rfl zh5 q203 q134 zn127 rfl (Nat.le_of_ble_eq_true rfl) (st := [va_rf (some σ.2.1)]) rfl (zcs8 (Nat.le_of_ble_eq_true rfl)) rfl (zkV (fun s5 hw => ?_)) (zout hX hR hTb)
  refine z_astore_n hX dX21_conjunction_7 rfl (i := 1) (Nat.le_of_ble_eq_true rfl) (zc_rf _) (ls2 := [some (va_rf (some a0)), some (va_rf (some σ.2.1))]) rfl ?_
  obtain ⟨n41, hw⟩ := hw
  refine zIt_w (P := fun (j : zS → Prop) => ∀  (s9 : zS), j  s9 → zW X s9 8 [some (va_rf (some a0)), some (va_rf (some σ.2.1))] []) (fun  _ h => h.elim) (fun rec10 hrec10  s9 hw => ?_) n41  _ hw
  refine z_aload_n hX dX21_conjunction_8 rfl (i := 1) rfl ?_
  refine z_aload_n hX dX21_conjunction_9 rfl (i := 0) rfl ?_
  obtain ⟨a14, f15, r16, m17, hw⟩ := hw
  refine z_invV hX hd r16 (ci := 26) rfl rfl m17 dX21_conjunction_10 (hC 517 _ zm517 _ _ _ _ hw) q2238 q2240 qs36 zh47 q2241 q180 zn517 rfl (Nat.le_of_ble_eq_true rfl) (st := [va_rf (some σ.2.1)]) rfl (zcs8 (Nat.le_of_ble_eq_true rfl)) rfl (zkR (fun v11 s12 hw => ?_)) (zout hX hR hTb)
  obtain ⟨a21, f22, r23, m24, hw⟩ := hw
  refine z_invV hX hd r23 (ci := 2) rfl rfl m24 dX21_conjunction_13 (hC 131 _ zm131 _ _ _ _ hw) q2374 q765 q766 zh5 q767 q134 zn131 rfl (Nat.le_of_ble_eq_true rfl) (st := []) rfl (zcs8 (Nat.le_of_ble_eq_true rfl)) rfl (zkI (fun v18 s19 hw => ?_)) (zout hX hR hTb)
  refine z_pop hX dX21_conjunction_16 rfl ?_
  refine z_aload_n hX dX21_conjunction_17 rfl (i := 0) rfl ?_
  refine z_ldcS hX (tx := "and") (j := 38) dX21_conjunction_18 (List.mem_of_getElem? (i := 38) rfl) ?_
  obtain ⟨a28, f29, r30, m31, hw⟩ := hw
  refine z_invVU hX hd r30 (ci := 26) rfl rfl m31 dX21_conjunction_20 (hC 315 _ zm315 _ _ _ _ hw) q2221 q2222 (z_declA hX q1417) q1419 q2223 zh13 q1420 q142 (zn315) rfl (Nat.le_of_ble_eq_true rfl) (st := []) rfl (zcs8 (Nat.le_of_ble_eq_true rfl)) rfl (zkI (fun v25 s26 hw => ?_)) (zout hX hR hTb)
  refine z_if_ne hX dX21_conjunction_23 (tgt := 8) rfl (fun c32 => ?_) (fun c32 => ?_)
  · have hw := hw.1 c32
    exact hrec10  _ hw
  · have hw := hw.2 c32
    refine z_new hX zc29 dX21_conjunction_26 q2376 q2377 q184 (fs := [va_rf none, .int 0]) (fun j hj => by have hj : j < 2 := hj; exact zdf29 j hj) hw.1 hw.2.1 (fun z34 => z_nm (fun s33 e35 => ?_))
    have hw := hw.2.2 z34 s33 e35
    refine z_dup hX dX21_conjunction_29 (zc_rf _) ?_
    refine z_aload_n hX dX21_conjunction_30 rfl (i := 1) rfl ?_
    refine z_iconst hX (v := (0 : Int32)) dX21_conjunction_31 (by decide) ?_
    obtain ⟨a39, r40, hw⟩ := hw
    refine z_invI hX hd r40 dX21_conjunction_32 (hC 526 _ zm526 _ _ _ _ hw) q2378 q2379 rfl zh51 q2380 q184 zn526 rfl (Nat.le_of_ble_eq_true rfl) (st := [va_rf (some s26.2.1)]) rfl (zcs8 (Nat.le_of_ble_eq_true rfl)) rfl (zkV (fun s37 hw => ?_)) (zout hX hR hTb)
    exact z_areturn hX hR dX21_conjunction_35 (Or.inl ⟨_, rfl⟩) hw
abbrev cX21_factor : ByteArray := prog_16_method_6_code
def yX21_factor : MethodName := ⟨RX21, "factor", "()LPackingDuel$Test;"⟩
def dkwX21_factor_4 : List UInt8 := [182, 0, 102, 183, 0, 111, 176]
abbrev dktX21_factor_4 : List UInt8 := dkwX21_factor_4 ++ []
def dkwX21_factor_3 : List UInt8 := [100, 181, 0, 68, 43, 176, 42, 182, 0, 102, 60, 42, 182, 0, 106, 61, 187, 0, 109, 89, 27, 28, 42]
abbrev dktX21_factor_3 : List UInt8 := dkwX21_factor_3 ++ dktX21_factor_4
def dkwX21_factor_2 : List UInt8 := [153, 0, 30, 42, 182, 0, 86, 42, 182, 0, 31, 76, 42, 16, 41, 182, 0, 98, 42, 89, 180, 0, 68, 4]
abbrev dktX21_factor_2 : List UInt8 := dkwX21_factor_2 ++ dktX21_factor_3
def dkwX21_factor_1 : List UInt8 := [183, 0, 91, 76, 42, 89, 180, 0, 68, 4, 100, 181, 0, 68, 43, 176, 42, 16, 40, 182, 0, 94]
abbrev dktX21_factor_1 : List UInt8 := dkwX21_factor_1 ++ dktX21_factor_2
def dkwX21_factor_0 : List UInt8 := [42, 182, 0, 75, 18, 79, 182, 0, 81, 153, 0, 31, 42, 182, 0, 86, 187, 0, 89, 89, 42, 182, 0, 63]
abbrev dktX21_factor_0 : List UInt8 := dkwX21_factor_0 ++ dktX21_factor_1
theorem dksX21_factor_0 : cX21_factor.data.toList.drop 0 = dktX21_factor_0 := by decide +kernel
theorem dksX21_factor_1 : cX21_factor.data.toList.drop 24 = dktX21_factor_1 := dk_seg dksX21_factor_0 24 rfl rfl
theorem dksX21_factor_2 : cX21_factor.data.toList.drop 46 = dktX21_factor_2 := dk_seg dksX21_factor_1 22 rfl rfl
theorem dksX21_factor_3 : cX21_factor.data.toList.drop 70 = dktX21_factor_3 := dk_seg dksX21_factor_2 24 rfl rfl
theorem dksX21_factor_4 : cX21_factor.data.toList.drop 93 = dktX21_factor_4 := dk_seg dksX21_factor_3 23 rfl rfl
theorem dX21_factor_0 : decode cX21_factor 0 = .ok (.aload_n 0, 1) := dk_42 (dk_at dksX21_factor_0 0 rfl rfl)
theorem dX21_factor_1 : decode cX21_factor 1 = .ok (.invokevirtual 75, 3) := dk_182 0 75 (dk_at dksX21_factor_0 1 rfl rfl)
theorem dX21_factor_4 : decode cX21_factor 4 = .ok (.ldc 79, 2) := dk_18 79 (dk_at dksX21_factor_0 4 rfl rfl)
theorem dX21_factor_6 : decode cX21_factor 6 = .ok (.invokevirtual 81, 3) := dk_182 0 81 (dk_at dksX21_factor_0 6 rfl rfl)
theorem dX21_factor_9 : decode cX21_factor 9 = .ok (.ifCond .eq 31, 3) := dk_153 0 31 (dk_at dksX21_factor_0 9 rfl rfl)
theorem dX21_factor_12 : decode cX21_factor 12 = .ok (.aload_n 0, 1) := dk_42 (dk_at dksX21_factor_0 12 rfl rfl)
theorem dX21_factor_13 : decode cX21_factor 13 = .ok (.invokevirtual 86, 3) := dk_182 0 86 (dk_at dksX21_factor_0 13 rfl rfl)
theorem dX21_factor_16 : decode cX21_factor 16 = .ok (.new 89, 3) := dk_187 0 89 (dk_at dksX21_factor_0 16 rfl rfl)
theorem dX21_factor_19 : decode cX21_factor 19 = .ok (.dup, 1) := dk_89 (dk_at dksX21_factor_0 19 rfl rfl)
theorem dX21_factor_20 : decode cX21_factor 20 = .ok (.aload_n 0, 1) := dk_42 (dk_at dksX21_factor_0 20 rfl rfl)
theorem dX21_factor_21 : decode cX21_factor 21 = .ok (.invokevirtual 63, 3) := dk_182 0 63 (dk_at dksX21_factor_0 21 rfl rfl)
theorem dX21_factor_24 : decode cX21_factor 24 = .ok (.invokespecial 91, 3) := dk_183 0 91 (dk_at dksX21_factor_1 0 rfl rfl)
theorem dX21_factor_27 : decode cX21_factor 27 = .ok (.astore_n 1, 1) := dk_76 (dk_at dksX21_factor_1 3 rfl rfl)
theorem dX21_factor_28 : decode cX21_factor 28 = .ok (.aload_n 0, 1) := dk_42 (dk_at dksX21_factor_1 4 rfl rfl)
theorem dX21_factor_29 : decode cX21_factor 29 = .ok (.dup, 1) := dk_89 (dk_at dksX21_factor_1 5 rfl rfl)
theorem dX21_factor_30 : decode cX21_factor 30 = .ok (.getfield 68, 3) := dk_180 0 68 (dk_at dksX21_factor_1 6 rfl rfl)
theorem dX21_factor_33 : decode cX21_factor 33 = .ok (.iconst 1, 1) := dk_4 (dk_at dksX21_factor_1 9 rfl rfl)
theorem dX21_factor_34 : decode cX21_factor 34 = .ok (.isub, 1) := dk_100 (dk_at dksX21_factor_1 10 rfl rfl)
theorem dX21_factor_35 : decode cX21_factor 35 = .ok (.putfield 68, 3) := dk_181 0 68 (dk_at dksX21_factor_1 11 rfl rfl)
theorem dX21_factor_38 : decode cX21_factor 38 = .ok (.aload_n 1, 1) := dk_43 (dk_at dksX21_factor_1 14 rfl rfl)
theorem dX21_factor_39 : decode cX21_factor 39 = .ok (.areturn, 1) := dk_176 (dk_at dksX21_factor_1 15 rfl rfl)
theorem dX21_factor_40 : decode cX21_factor 40 = .ok (.aload_n 0, 1) := dk_42 (dk_at dksX21_factor_1 16 rfl rfl)
theorem dX21_factor_41 : decode cX21_factor 41 = .ok (.bipush 40, 2) := dk_16 40 (dk_at dksX21_factor_1 17 rfl rfl)
theorem dX21_factor_43 : decode cX21_factor 43 = .ok (.invokevirtual 94, 3) := dk_182 0 94 (dk_at dksX21_factor_1 19 rfl rfl)
theorem dX21_factor_46 : decode cX21_factor 46 = .ok (.ifCond .eq 30, 3) := dk_153 0 30 (dk_at dksX21_factor_2 0 rfl rfl)
theorem dX21_factor_49 : decode cX21_factor 49 = .ok (.aload_n 0, 1) := dk_42 (dk_at dksX21_factor_2 3 rfl rfl)
theorem dX21_factor_50 : decode cX21_factor 50 = .ok (.invokevirtual 86, 3) := dk_182 0 86 (dk_at dksX21_factor_2 4 rfl rfl)
theorem dX21_factor_53 : decode cX21_factor 53 = .ok (.aload_n 0, 1) := dk_42 (dk_at dksX21_factor_2 7 rfl rfl)
theorem dX21_factor_54 : decode cX21_factor 54 = .ok (.invokevirtual 31, 3) := dk_182 0 31 (dk_at dksX21_factor_2 8 rfl rfl)
theorem dX21_factor_57 : decode cX21_factor 57 = .ok (.astore_n 1, 1) := dk_76 (dk_at dksX21_factor_2 11 rfl rfl)
theorem dX21_factor_58 : decode cX21_factor 58 = .ok (.aload_n 0, 1) := dk_42 (dk_at dksX21_factor_2 12 rfl rfl)
theorem dX21_factor_59 : decode cX21_factor 59 = .ok (.bipush 41, 2) := dk_16 41 (dk_at dksX21_factor_2 13 rfl rfl)
theorem dX21_factor_61 : decode cX21_factor 61 = .ok (.invokevirtual 98, 3) := dk_182 0 98 (dk_at dksX21_factor_2 15 rfl rfl)
theorem dX21_factor_64 : decode cX21_factor 64 = .ok (.aload_n 0, 1) := dk_42 (dk_at dksX21_factor_2 18 rfl rfl)
theorem dX21_factor_65 : decode cX21_factor 65 = .ok (.dup, 1) := dk_89 (dk_at dksX21_factor_2 19 rfl rfl)
theorem dX21_factor_66 : decode cX21_factor 66 = .ok (.getfield 68, 3) := dk_180 0 68 (dk_at dksX21_factor_2 20 rfl rfl)
theorem dX21_factor_69 : decode cX21_factor 69 = .ok (.iconst 1, 1) := dk_4 (dk_at dksX21_factor_2 23 rfl rfl)
theorem dX21_factor_70 : decode cX21_factor 70 = .ok (.isub, 1) := dk_100 (dk_at dksX21_factor_3 0 rfl rfl)
theorem dX21_factor_71 : decode cX21_factor 71 = .ok (.putfield 68, 3) := dk_181 0 68 (dk_at dksX21_factor_3 1 rfl rfl)
theorem dX21_factor_74 : decode cX21_factor 74 = .ok (.aload_n 1, 1) := dk_43 (dk_at dksX21_factor_3 4 rfl rfl)
theorem dX21_factor_75 : decode cX21_factor 75 = .ok (.areturn, 1) := dk_176 (dk_at dksX21_factor_3 5 rfl rfl)
theorem dX21_factor_76 : decode cX21_factor 76 = .ok (.aload_n 0, 1) := dk_42 (dk_at dksX21_factor_3 6 rfl rfl)
theorem dX21_factor_77 : decode cX21_factor 77 = .ok (.invokevirtual 102, 3) := dk_182 0 102 (dk_at dksX21_factor_3 7 rfl rfl)
theorem dX21_factor_80 : decode cX21_factor 80 = .ok (.istore_n 1, 1) := dk_60 (dk_at dksX21_factor_3 10 rfl rfl)
theorem dX21_factor_81 : decode cX21_factor 81 = .ok (.aload_n 0, 1) := dk_42 (dk_at dksX21_factor_3 11 rfl rfl)
theorem dX21_factor_82 : decode cX21_factor 82 = .ok (.invokevirtual 106, 3) := dk_182 0 106 (dk_at dksX21_factor_3 12 rfl rfl)
theorem dX21_factor_85 : decode cX21_factor 85 = .ok (.istore_n 2, 1) := dk_61 (dk_at dksX21_factor_3 15 rfl rfl)
theorem dX21_factor_86 : decode cX21_factor 86 = .ok (.new 109, 3) := dk_187 0 109 (dk_at dksX21_factor_3 16 rfl rfl)
theorem dX21_factor_89 : decode cX21_factor 89 = .ok (.dup, 1) := dk_89 (dk_at dksX21_factor_3 19 rfl rfl)
theorem dX21_factor_90 : decode cX21_factor 90 = .ok (.iload_n 1, 1) := dk_27 (dk_at dksX21_factor_3 20 rfl rfl)
theorem dX21_factor_91 : decode cX21_factor 91 = .ok (.iload_n 2, 1) := dk_28 (dk_at dksX21_factor_3 21 rfl rfl)
theorem dX21_factor_92 : decode cX21_factor 92 = .ok (.aload_n 0, 1) := dk_42 (dk_at dksX21_factor_3 22 rfl rfl)
theorem dX21_factor_93 : decode cX21_factor 93 = .ok (.invokevirtual 102, 3) := dk_182 0 102 (dk_at dksX21_factor_4 0 rfl rfl)
theorem dX21_factor_96 : decode cX21_factor 96 = .ok (.invokespecial 111, 3) := dk_183 0 111 (dk_at dksX21_factor_4 3 rfl rfl)
theorem dX21_factor_99 : decode cX21_factor 99 = .ok (.areturn, 1) := dk_176 (dk_at dksX21_factor_4 6 rfl rfl)
/-- PackingDuel$QueryParser.factor()LPackingDuel$Test; -/
def zb517 (G : zPg) (C : zO) (args : List Value) (Q : zQ) (Y : zY) (σ : zS) : Prop := ∃ (a0 : Nat), args = [.ref a0] ∧ (zrc σ (some a0) 26 (fun a4 => zcl C 316 [.ref a4] Y σ (zqR (fun v1 s2 => zrc s2 v1 9 (fun a11 => zcl C 365 [.ref a11, va_rf (some (G.2 37))] Y s2 (zqI (fun v8 s9 => ((v8 = 0) → zrc s9 (some a0) 26 (fun a19 => zcl C 321 [.ref a19, .int (40 : Int32)] Y s9 (zqI (fun v16 s17 => ((v16 = 0) → zrc s17 (some a0) 26 (fun a27 => zcl C 519 [.ref a27] Y s17 (zqI (fun v24 s25 => zrc s25 (some a0) 26 (fun a34 => zcl C 323 [.ref a34] Y s25 (zqI (fun v31 s32 => znew s32 28 [.int 0, .int 0, .int 0] 3 (fun s38 => zrc s38 (some a0) 26 (fun a44 => zcl C 519 [.ref a44] Y s38 (zqI (fun v41 s42 => (∃ a51, (some s32.2.1) = some a51 ∧ zcl C 523 [.ref a51, .int v24, .int v31, .int v41] Y s42 (zqV (fun s49 => Q (some (va_rf (some s32.2.1))) s49)))))))))))))) ∧ ((¬ v16 = 0) → zrc s17 (some a0) 26 (fun a56 => zcl C 518 [.ref a56] Y s17 (zqV (fun s54 => zrc s54 (some a0) 26 (fun a63 => zcl C 515 [.ref a63] Y s54 (zqR (fun v60 s61 => zrc s61 (some a0) 26 (fun a70 => zcl C 320 [.ref a70, .int (41 : Int32)] Y s61 (zqV (fun s68 => zgI s68 (some a0) 26 9 (fun v74 => zput s68 G.1 (some a0) 26 9 (.int (v74 - (1 : Int32))) (fun s80 => Q (some (va_rf v60)) s80)))))))))))))))) ∧ ((¬ v8 = 0) → zrc s9 (some a0) 26 (fun a91 => zcl C 518 [.ref a91] Y s9 (zqV (fun s89 => znew s89 27 [va_rf none] 1 (fun s95 => zrc s95 (some a0) 26 (fun a101 => zcl C 517 [.ref a101] Y s95 (zqR (fun v98 s99 => (∃ a108, (some s89.2.1) = some a108 ∧ zcl C 521 [.ref a108, va_rf v98] Y s99 (zqV (fun s106 => zgI s106 (some a0) 26 9 (fun v110 => zput s106 G.1 (some a0) 26 9 (.int (v110 - (1 : Int32))) (fun s116 => Q (some (va_rf (some s89.2.1))) s116))))))))))))))))))))
set_option maxHeartbeats 4000000 in
theorem wk517 {l : Launch} {g : zG} {d : Nat} {C : zO} (hG : zGk g) (hC : zSound l g d C) {args : List Value} {Q : zQ} {Y : zY} {σ : zS} (hw : zb517 (zpg g) C args Q Y σ) : zMet l g (d + 1) (⟨"PackingDuel$QueryParser", "factor", "()LPackingDuel$Test;"⟩, Cond.code ⟨"PackingDuel$QueryParser", "factor", "()LPackingDuel$Test;"⟩ prog_16_method_6_code 3 (Option.some (FieldType.object "PackingDuel$Test"))) args σ Q Y := by
  obtain ⟨a0, rfl, hw⟩ := hw
  refine zof hG (by decide +kernel) [false] ⟨rfl, trivial⟩ (Nat.le_of_ble_eq_true rfl) (ls := [some (va_rf (some a0)), none, none]) rfl ?_
  intro X hX hR hTb hd1 hd2 hl hg hnm
  subst hl
  subst hg
  have hd : zDep X d := ⟨hd1, hd2⟩
  refine z_aload_n hX dX21_factor_0 rfl (i := 0) rfl ?_
  obtain ⟨a4, f5, r6, m7, hw⟩ := hw
  refine z_invVU hX hd r6 (ci := 26) rfl rfl m7 dX21_factor_1 (hC 316 _ zm316 _ _ _ _ hw) q2242 q2243 (z_declA hX q1499) q1422 q2244 zh13 q1426 q142 (zn316) rfl (Nat.le_of_ble_eq_true rfl) (st := []) rfl (zcs8 (Nat.le_of_ble_eq_true rfl)) rfl (zkR (fun v1 s2 hw => ?_)) (zout hX hR hTb)
  refine z_ldcS hX (tx := "not") (j := 37) dX21_factor_4 (List.mem_of_getElem? (i := 37) rfl) ?_
  obtain ⟨a11, f12, r13, m14, hw⟩ := hw
  refine z_invV hX hd r13 (ci := 9) rfl rfl m14 dX21_factor_6 (hC 365 _ zm365 _ _ _ _ hw) q2246 q1430 q1431 zh17 q1432 q146 zn365 rfl (Nat.le_of_ble_eq_true rfl) (st := []) rfl (zcs8 (Nat.le_of_ble_eq_true rfl)) rfl (zkI (fun v8 s9 hw => ?_)) (zout hX hR hTb)
  refine z_if_eq hX dX21_factor_9 (tgt := 40) rfl (fun c15 => ?_) (fun c15 => ?_)
  · have hw := hw.1 c15
    refine z_aload_n hX dX21_factor_40 rfl (i := 0) rfl ?_
    refine z_bipush hX (v := (40 : Int32)) dX21_factor_41 (by decide) ?_
    obtain ⟨a19, f20, r21, m22, hw⟩ := hw
    refine z_invVU hX hd r21 (ci := 26) rfl rfl m22 dX21_factor_43 (hC 321 _ zm321 _ _ _ _ hw) q2267 q2268 (z_declA hX q2269) q1492 q2270 zh13 q1496 q142 (zn321) rfl (Nat.le_of_ble_eq_true rfl) (st := []) rfl (zcs8 (Nat.le_of_ble_eq_true rfl)) rfl (zkI (fun v16 s17 hw => ?_)) (zout hX hR hTb)
    refine z_if_eq hX dX21_factor_46 (tgt := 76) rfl (fun c23 => ?_) (fun c23 => ?_)
    · have hw := hw.1 c23
      refine z_aload_n hX dX21_factor_76 rfl (i := 0) rfl ?_
      obtain ⟨a27, f28, r29, m30, hw⟩ := hw
      refine z_invV hX hd r29 (ci := 26) rfl rfl m30 dX21_factor_77 (hC 519 _ zm519 _ _ _ _ hw) q2274 q2276 qs38 zh47 q2277 q180 zn519 rfl (Nat.le_of_ble_eq_true rfl) (st := []) rfl (zcs8 (Nat.le_of_ble_eq_true rfl)) rfl (zkI (fun v24 s25 hw => ?_)) (zout hX hR hTb)
      refine z_istore_n hX dX21_factor_80 rfl (i := 1) (Nat.le_of_ble_eq_true rfl) (zc_rf _) (ls2 := [some (va_rf (some a0)), some (.int v24), none]) rfl ?_
      refine z_aload_n hX dX21_factor_81 rfl (i := 0) rfl ?_
      obtain ⟨a34, f35, r36, m37, hw⟩ := hw
      refine z_invVU hX hd r36 (ci := 26) rfl rfl m37 dX21_factor_82 (hC 323 _ zm323 _ _ _ _ hw) q2352 q2353 (z_declA hX q2354) q2356 q2355 zh13 q2357 q142 (zn323) rfl (Nat.le_of_ble_eq_true rfl) (st := []) rfl (zcs8 (Nat.le_of_ble_eq_true rfl)) rfl (zkI (fun v31 s32 hw => ?_)) (zout hX hR hTb)
      refine z_istore_n hX dX21_factor_85 rfl (i := 2) (Nat.le_of_ble_eq_true rfl) rfl (ls2 := [some (va_rf (some a0)), some (.int v24), some (.int v31)]) rfl ?_
      refine z_new hX zc28 dX21_factor_86 q2358 q2359 q183 (fs := [.int 0, .int 0, .int 0]) (fun j hj => by have hj : j < 3 := hj; exact zdf28 j hj) hw.1 hw.2.1 (fun z39 => z_nm (fun s38 e40 => ?_))
      have hw := hw.2.2 z39 s38 e40
      refine z_dup hX dX21_factor_89 (zc_rf _) ?_
      refine z_iload_n hX dX21_factor_90 rfl (i := 1) rfl ?_
      refine z_iload_n hX dX21_factor_91 rfl (i := 2) rfl ?_
      refine z_aload_n hX dX21_factor_92 rfl (i := 0) rfl ?_
      obtain ⟨a44, f45, r46, m47, hw⟩ := hw
      refine z_invV hX hd r46 (ci := 26) rfl rfl m47 dX21_factor_93 (hC 519 _ zm519 _ _ _ _ hw) q2274 q2276 qs38 zh47 q2277 q180 zn519 rfl (Nat.le_of_ble_eq_true rfl) (st := [.int v31, .int v24, va_rf (some s32.2.1), va_rf (some s32.2.1)]) rfl (zcs8 (Nat.le_of_ble_eq_true rfl)) rfl (zkI (fun v41 s42 hw => ?_)) (zout hX hR hTb)
      obtain ⟨a51, r52, hw⟩ := hw
      refine z_invI hX hd r52 dX21_factor_96 (hC 523 _ zm523 _ _ _ _ hw) q2360 q2361 rfl zh50 q2362 q183 zn523 rfl (Nat.le_of_ble_eq_true rfl) (st := [va_rf (some s32.2.1)]) rfl (zcs8 (Nat.le_of_ble_eq_true rfl)) rfl (zkV (fun s49 hw => ?_)) (zout hX hR hTb)
      exact z_areturn hX hR dX21_factor_99 (Or.inl ⟨_, rfl⟩) hw
    · have hw := hw.2 c23
      refine z_aload_n hX dX21_factor_49 rfl (i := 0) rfl ?_
      obtain ⟨a56, f57, r58, m59, hw⟩ := hw
      refine z_invV hX hd r58 (ci := 26) rfl rfl m59 dX21_factor_50 (hC 518 _ zm518 _ _ _ _ hw) q2247 q2249 qs37 zh47 q2250 q180 zn518 rfl (Nat.le_of_ble_eq_true rfl) (st := []) rfl (zcs8 (Nat.le_of_ble_eq_true rfl)) rfl (zkV (fun s54 hw => ?_)) (zout hX hR hTb)
      refine z_aload_n hX dX21_factor_53 rfl (i := 0) rfl ?_
      obtain ⟨a63, f64, r65, m66, hw⟩ := hw
      refine z_invV hX hd r65 (ci := 26) rfl rfl m66 dX21_factor_54 (hC 515 _ zm515 _ _ _ _ hw) q2228 q2230 qs34 zh47 q2231 q180 zn515 rfl (Nat.le_of_ble_eq_true rfl) (st := []) rfl (zcs8 (Nat.le_of_ble_eq_true rfl)) rfl (zkR (fun v60 s61 hw => ?_)) (zout hX hR hTb)
      refine z_astore_n hX dX21_factor_57 rfl (i := 1) (Nat.le_of_ble_eq_true rfl) (zc_rf _) (ls2 := [some (va_rf (some a0)), some (va_rf v60), none]) rfl ?_
      refine z_aload_n hX dX21_factor_58 rfl (i := 0) rfl ?_
      refine z_bipush hX (v := (41 : Int32)) dX21_factor_59 (by decide) ?_
      obtain ⟨a70, f71, r72, m73, hw⟩ := hw
      refine z_invVU hX hd r72 (ci := 26) rfl rfl m73 dX21_factor_61 (hC 320 _ zm320 _ _ _ _ hw) q2271 q2272 (z_declA hX q1487) q1489 q2273 zh13 q1490 q142 (zn320) rfl (Nat.le_of_ble_eq_true rfl) (st := []) rfl (zcs8 (Nat.le_of_ble_eq_true rfl)) rfl (zkV (fun s68 hw => ?_)) (zout hX hR hTb)
      refine z_aload_n hX dX21_factor_64 rfl (i := 0) rfl ?_
      refine z_dup hX dX21_factor_65 (zc_rf _) ?_
      obtain ⟨a75, f76, v74, r77, m78, e79, hw⟩ := hw
      refine z_get hX zc26 (k := 9) dX21_factor_66 (Nat.le_of_ble_eq_true rfl) (zlk hX q2199) r77 m78 e79 ?_
      refine z_iconst hX (v := (1 : Int32)) dX21_factor_69 (by decide) ?_
      refine z_isub hX dX21_factor_70 ?_
      obtain ⟨a82, f83, r84, g85, m86, l87, hw⟩ := hw
      refine z_put hX zc26 (k := 9) dX21_factor_71 (Nat.le_of_ble_eq_true rfl) (zlk hX q2199) rfl rfl rfl r84 g85 m86 l87 (z_nm (fun s80 e81 => ?_))
      have hw := hw s80 e81
      refine z_aload_n hX dX21_factor_74 rfl (i := 1) rfl ?_
      exact z_areturn hX hR dX21_factor_75 (Or.inl ⟨_, rfl⟩) hw
  · have hw := hw.2 c15
    refine z_aload_n hX dX21_factor_12 rfl (i := 0) rfl ?_
    obtain ⟨a91, f92, r93, m94, hw⟩ := hw
    refine z_invV hX hd r93 (ci := 26) rfl rfl m94 dX21_factor_13 (hC 518 _ zm518 _ _ _ _ hw) q2247 q2249 qs37 zh47 q2250 q180 zn518 rfl (Nat.le_of_ble_eq_true rfl) (st := []) rfl (zcs8 (Nat.le_of_ble_eq_true rfl)) rfl (zkV (fun s89 hw => ?_)) (zout hX hR hTb)
    refine z_new hX zc27 dX21_factor_16 q2254 q2255 q182 (fs := [va_rf none]) (fun j hj => by have hj : j < 1 := hj; exact zdf27 j hj) hw.1 hw.2.1 (fun z96 => z_nm (fun s95 e97 => ?_))
    have hw := hw.2.2 z96 s95 e97
    refine z_dup hX dX21_factor_19 (zc_rf _) ?_
    refine z_aload_n hX dX21_factor_20 rfl (i := 0) rfl ?_
    obtain ⟨a101, f102, r103, m104, hw⟩ := hw
    refine z_invV hX hd r103 (ci := 26) rfl rfl m104 dX21_factor_21 (hC 517 _ zm517 _ _ _ _ hw) q2238 q2240 qs36 zh47 q2241 q180 zn517 rfl (Nat.le_of_ble_eq_true rfl) (st := [va_rf (some s89.2.1), va_rf (some s89.2.1)]) rfl (zcs8 (Nat.le_of_ble_eq_true rfl)) rfl (zkR (fun v98 s99 hw => ?_)) (zout hX hR hTb)
    obtain ⟨a108, r109, hw⟩ := hw
    refine z_invI hX hd r109 dX21_factor_24 (hC 521 _ zm521 _ _ _ _ hw) q2256 q2257 rfl zh49 q2258 q182 zn521 rfl (Nat.le_of_ble_eq_true rfl) (st := [va_rf (some s89.2.1)]) rfl (zcs8 (Nat.le_of_ble_eq_true rfl)) rfl (zkV (fun s106 hw => ?_)) (zout hX hR hTb)
    refine z_astore_n hX dX21_factor_27 rfl (i := 1) (Nat.le_of_ble_eq_true rfl) (zc_rf _) (ls2 := [some (va_rf (some a0)), some (va_rf (some s89.2.1)), none]) rfl ?_
    refine z_aload_n hX dX21_factor_28 rfl (i := 0) rfl ?_
    refine z_dup hX dX21_factor_29 (zc_rf _) ?_
    obtain ⟨a111, f112, v110, r113, m114, e115, hw⟩ := hw
    refine z_get hX zc26 (k := 9) dX21_factor_30 (Nat.le_of_ble_eq_true rfl) (zlk hX q2199) r113 m114 e115 ?_
    refine z_iconst hX (v := (1 : Int32)) dX21_factor_33 (by decide) ?_
    refine z_isub hX dX21_factor_34 ?_
    obtain ⟨a118, f119, r120, g121, m122, l123, hw⟩ := hw
    refine z_put hX zc26 (k := 9) dX21_factor_35 (Nat.le_of_ble_eq_true rfl) (zlk hX q2199) rfl rfl rfl r120 g121 m122 l123 (z_nm (fun s116 e117 => ?_))
    have hw := hw s116 e117
    refine z_aload_n hX dX21_factor_38 rfl (i := 1) rfl ?_
    exact z_areturn hX hR dX21_factor_39 (Or.inl ⟨_, rfl⟩) hw
abbrev cX21_enter : ByteArray := prog_16_method_5_code
def yX21_enter : MethodName := ⟨RX21, "enter", "()V"⟩
def dkwX21_enter_1 : List UInt8 := [4, 96, 181, 0, 68, 42, 182, 0, 72, 177]
abbrev dktX21_enter_1 : List UInt8 := dkwX21_enter_1 ++ []
def dkwX21_enter_0 : List UInt8 := [42, 42, 180, 0, 68, 16, 6, 162, 0, 7, 4, 167, 0, 4, 3, 6, 182, 0, 27, 42, 89, 180, 0, 68]
abbrev dktX21_enter_0 : List UInt8 := dkwX21_enter_0 ++ dktX21_enter_1
theorem dksX21_enter_0 : cX21_enter.data.toList.drop 0 = dktX21_enter_0 := by decide +kernel
theorem dksX21_enter_1 : cX21_enter.data.toList.drop 24 = dktX21_enter_1 := dk_seg dksX21_enter_0 24 rfl rfl
theorem dX21_enter_0 : decode cX21_enter 0 = .ok (.aload_n 0, 1) := dk_42 (dk_at dksX21_enter_0 0 rfl rfl)
theorem dX21_enter_1 : decode cX21_enter 1 = .ok (.aload_n 0, 1) := dk_42 (dk_at dksX21_enter_0 1 rfl rfl)
theorem dX21_enter_2 : decode cX21_enter 2 = .ok (.getfield 68, 3) := dk_180 0 68 (dk_at dksX21_enter_0 2 rfl rfl)
theorem dX21_enter_5 : decode cX21_enter 5 = .ok (.bipush 6, 2) := dk_16 6 (dk_at dksX21_enter_0 5 rfl rfl)
theorem dX21_enter_7 : decode cX21_enter 7 = .ok (.if_icmp .ge 7, 3) := dk_162 0 7 (dk_at dksX21_enter_0 7 rfl rfl)
theorem dX21_enter_10 : decode cX21_enter 10 = .ok (.iconst 1, 1) := dk_4 (dk_at dksX21_enter_0 10 rfl rfl)
theorem dX21_enter_11 : decode cX21_enter 11 = .ok (.goto 4, 3) := dk_167 0 4 (dk_at dksX21_enter_0 11 rfl rfl)
theorem dX21_enter_14 : decode cX21_enter 14 = .ok (.iconst 0, 1) := dk_3 (dk_at dksX21_enter_0 14 rfl rfl)
theorem dX21_enter_15 : decode cX21_enter 15 = .ok (.iconst 3, 1) := dk_6 (dk_at dksX21_enter_0 15 rfl rfl)
theorem dX21_enter_16 : decode cX21_enter 16 = .ok (.invokevirtual 27, 3) := dk_182 0 27 (dk_at dksX21_enter_0 16 rfl rfl)
theorem dX21_enter_19 : decode cX21_enter 19 = .ok (.aload_n 0, 1) := dk_42 (dk_at dksX21_enter_0 19 rfl rfl)
theorem dX21_enter_20 : decode cX21_enter 20 = .ok (.dup, 1) := dk_89 (dk_at dksX21_enter_0 20 rfl rfl)
theorem dX21_enter_21 : decode cX21_enter 21 = .ok (.getfield 68, 3) := dk_180 0 68 (dk_at dksX21_enter_0 21 rfl rfl)
theorem dX21_enter_24 : decode cX21_enter 24 = .ok (.iconst 1, 1) := dk_4 (dk_at dksX21_enter_1 0 rfl rfl)
theorem dX21_enter_25 : decode cX21_enter 25 = .ok (.iadd, 1) := dk_96 (dk_at dksX21_enter_1 1 rfl rfl)
theorem dX21_enter_26 : decode cX21_enter 26 = .ok (.putfield 68, 3) := dk_181 0 68 (dk_at dksX21_enter_1 2 rfl rfl)
theorem dX21_enter_29 : decode cX21_enter 29 = .ok (.aload_n 0, 1) := dk_42 (dk_at dksX21_enter_1 5 rfl rfl)
theorem dX21_enter_30 : decode cX21_enter 30 = .ok (.invokevirtual 72, 3) := dk_182 0 72 (dk_at dksX21_enter_1 6 rfl rfl)
theorem dX21_enter_33 : decode cX21_enter 33 = .ok (.return_, 1) := dk_177 (dk_at dksX21_enter_1 9 rfl rfl)
/-- PackingDuel$QueryParser.enter()V -/
def zb518 (G : zPg) (C : zO) (args : List Value) (Q : zQ) (Y : zY) (σ : zS) : Prop := ∃ (a0 : Nat), args = [.ref a0] ∧ (zgI σ (some a0) 26 9 (fun v1 => zJ (fun (p7 : Int32) (s8 : zS) => zrc s8 (some a0) 26 (fun a13 => zcl C 317 [.ref a13, .int p7, .int (3 : Int32)] Y s8 (zqV (fun s11 => zgI s11 (some a0) 26 9 (fun v17 => zput s11 G.1 (some a0) 26 9 (.int (v17 + (1 : Int32))) (fun s23 => zrc s23 (some a0) 26 (fun a34 => zcl C 311 [.ref a34] Y s23 (zqV (fun s32 => Q none s32))))))))) (fun (j9 : Int32 → zS → Prop) => (((6 : Int32) ≤ v1) → j9 (0 : Int32) σ) ∧ ((¬ (6 : Int32) ≤ v1) → j9 (1 : Int32) σ))))
set_option maxHeartbeats 4000000 in
theorem wk518 {l : Launch} {g : zG} {d : Nat} {C : zO} (hG : zGk g) (hC : zSound l g d C) {args : List Value} {Q : zQ} {Y : zY} {σ : zS} (hw : zb518 (zpg g) C args Q Y σ) : zMet l g (d + 1) (⟨"PackingDuel$QueryParser", "enter", "()V"⟩, Cond.code ⟨"PackingDuel$QueryParser", "enter", "()V"⟩ prog_16_method_5_code 1 (Option.none : Option FieldType)) args σ Q Y := by
  obtain ⟨a0, rfl, hw⟩ := hw
  refine zof hG (by decide +kernel) [false] ⟨rfl, trivial⟩ (Nat.le_of_ble_eq_true rfl) (ls := [some (va_rf (some a0))]) rfl ?_
  intro X hX hR hTb hd1 hd2 hl hg hnm
  subst hl
  subst hg
  have hd : zDep X d := ⟨hd1, hd2⟩
  refine z_aload_n hX dX21_enter_0 rfl (i := 0) rfl ?_
  refine z_aload_n hX dX21_enter_1 rfl (i := 0) rfl ?_
  obtain ⟨a2, f3, v1, r4, m5, e6, hw⟩ := hw
  refine z_get hX zc26 (k := 9) dX21_enter_2 (Nat.le_of_ble_eq_true rfl) (zlk hX q2199) r4 m5 e6 ?_
  refine z_bipush hX (v := (6 : Int32)) dX21_enter_5 (by decide) ?_
  refine zJ_w (P := fun (j : Int32 → zS → Prop) => ∀ (p7 : Int32) (s8 : zS), j p7 s8 → zW X s8 15 [some (va_rf (some a0))] [.int p7, va_rf (some a0)]) hw (fun p7 s8 hw => ?_) (fun j9 hj9 hw => ?_)
  · refine z_iconst hX (v := (3 : Int32)) dX21_enter_15 (by decide) ?_
    obtain ⟨a13, f14, r15, m16, hw⟩ := hw
    refine z_invVU hX hd r15 (ci := 26) rfl rfl m16 dX21_enter_16 (hC 317 _ zm317 _ _ _ _ hw) q2225 q2226 (z_declA hX q1439) q1441 q2227 zh13 q1442 q142 (zn317) rfl (Nat.le_of_ble_eq_true rfl) (st := []) rfl (zcs8 (Nat.le_of_ble_eq_true rfl)) rfl (zkV (fun s11 hw => ?_)) (zout hX hR hTb)
    refine z_aload_n hX dX21_enter_19 rfl (i := 0) rfl ?_
    refine z_dup hX dX21_enter_20 (zc_rf _) ?_
    obtain ⟨a18, f19, v17, r20, m21, e22, hw⟩ := hw
    refine z_get hX zc26 (k := 9) dX21_enter_21 (Nat.le_of_ble_eq_true rfl) (zlk hX q2199) r20 m21 e22 ?_
    refine z_iconst hX (v := (1 : Int32)) dX21_enter_24 (by decide) ?_
    refine z_iadd hX dX21_enter_25 ?_
    obtain ⟨a25, f26, r27, g28, m29, l30, hw⟩ := hw
    refine z_put hX zc26 (k := 9) dX21_enter_26 (Nat.le_of_ble_eq_true rfl) (zlk hX q2199) rfl rfl rfl r27 g28 m29 l30 (z_nm (fun s23 e24 => ?_))
    have hw := hw s23 e24
    refine z_aload_n hX dX21_enter_29 rfl (i := 0) rfl ?_
    obtain ⟨a34, f35, r36, m37, hw⟩ := hw
    refine z_invVU hX hd r36 (ci := 26) rfl rfl m37 dX21_enter_30 (hC 311 _ zm311 _ _ _ _ hw) q2251 q2252 (z_declA hX q1510) q1126 q2253 zh13 q1130 q142 (zn311) rfl (Nat.le_of_ble_eq_true rfl) (st := []) rfl (zcs8 (Nat.le_of_ble_eq_true rfl)) rfl (zkV (fun s32 hw => ?_)) (zout hX hR hTb)
    exact z_return hX hR dX21_enter_33 hw
  · refine z_icmp_ge hX dX21_enter_7 (tgt := 14) rfl (fun c38 => ?_) (fun c38 => ?_)
    · have hw := hw.1 c38
      refine z_iconst hX (v := (0 : Int32)) dX21_enter_14 (by decide) ?_
      exact hj9 _ _ hw
    · have hw := hw.2 c38
      refine z_iconst hX (v := (1 : Int32)) dX21_enter_10 (by decide) ?_
      refine z_goto hX dX21_enter_11 (tgt := 15) rfl ?_
      exact hj9 _ _ hw
abbrev cX21_operand : ByteArray := prog_16_method_7_code
def yX21_operand : MethodName := ⟨RX21, "operand", "()I"⟩
def dkwX21_operand_2 : List UInt8 := [182, 0, 72, 27, 172]
abbrev dktX21_operand_2 : List UInt8 := dkwX21_operand_2 ++ []
def dkwX21_operand_1 : List UInt8 := [182, 0, 75, 184, 0, 121, 60, 42, 27, 2, 159, 0, 7, 4, 167, 0, 4, 3, 4, 182, 0, 27, 42]
abbrev dktX21_operand_1 : List UInt8 := dkwX21_operand_1 ++ dktX21_operand_2
def dkwX21_operand_0 : List UInt8 := [42, 180, 0, 35, 178, 0, 114, 166, 0, 14, 2, 42, 3, 17, 39, 15, 182, 0, 117, 100, 172, 42]
abbrev dktX21_operand_0 : List UInt8 := dkwX21_operand_0 ++ dktX21_operand_1
theorem dksX21_operand_0 : cX21_operand.data.toList.drop 0 = dktX21_operand_0 := by decide +kernel
theorem dksX21_operand_1 : cX21_operand.data.toList.drop 22 = dktX21_operand_1 := dk_seg dksX21_operand_0 22 rfl rfl
theorem dksX21_operand_2 : cX21_operand.data.toList.drop 45 = dktX21_operand_2 := dk_seg dksX21_operand_1 23 rfl rfl
theorem dX21_operand_0 : decode cX21_operand 0 = .ok (.aload_n 0, 1) := dk_42 (dk_at dksX21_operand_0 0 rfl rfl)
theorem dX21_operand_1 : decode cX21_operand 1 = .ok (.getfield 35, 3) := dk_180 0 35 (dk_at dksX21_operand_0 1 rfl rfl)
theorem dX21_operand_4 : decode cX21_operand 4 = .ok (.getstatic 114, 3) := dk_178 0 114 (dk_at dksX21_operand_0 4 rfl rfl)
theorem dX21_operand_7 : decode cX21_operand 7 = .ok (.if_acmp .ne 14, 3) := dk_166 0 14 (dk_at dksX21_operand_0 7 rfl rfl)
theorem dX21_operand_10 : decode cX21_operand 10 = .ok (.iconst (-1), 1) := dk_2 (dk_at dksX21_operand_0 10 rfl rfl)
theorem dX21_operand_11 : decode cX21_operand 11 = .ok (.aload_n 0, 1) := dk_42 (dk_at dksX21_operand_0 11 rfl rfl)
theorem dX21_operand_12 : decode cX21_operand 12 = .ok (.iconst 0, 1) := dk_3 (dk_at dksX21_operand_0 12 rfl rfl)
theorem dX21_operand_13 : decode cX21_operand 13 = .ok (.sipush 9999, 3) := dk_17 39 15 (dk_at dksX21_operand_0 13 rfl rfl)
theorem dX21_operand_16 : decode cX21_operand 16 = .ok (.invokevirtual 117, 3) := dk_182 0 117 (dk_at dksX21_operand_0 16 rfl rfl)
theorem dX21_operand_19 : decode cX21_operand 19 = .ok (.isub, 1) := dk_100 (dk_at dksX21_operand_0 19 rfl rfl)
theorem dX21_operand_20 : decode cX21_operand 20 = .ok (.ireturn, 1) := dk_172 (dk_at dksX21_operand_0 20 rfl rfl)
theorem dX21_operand_21 : decode cX21_operand 21 = .ok (.aload_n 0, 1) := dk_42 (dk_at dksX21_operand_0 21 rfl rfl)
theorem dX21_operand_22 : decode cX21_operand 22 = .ok (.invokevirtual 75, 3) := dk_182 0 75 (dk_at dksX21_operand_1 0 rfl rfl)
theorem dX21_operand_25 : decode cX21_operand 25 = .ok (.invokestatic 121, 3) := dk_184 0 121 (dk_at dksX21_operand_1 3 rfl rfl)
theorem dX21_operand_28 : decode cX21_operand 28 = .ok (.istore_n 1, 1) := dk_60 (dk_at dksX21_operand_1 6 rfl rfl)
theorem dX21_operand_29 : decode cX21_operand 29 = .ok (.aload_n 0, 1) := dk_42 (dk_at dksX21_operand_1 7 rfl rfl)
theorem dX21_operand_30 : decode cX21_operand 30 = .ok (.iload_n 1, 1) := dk_27 (dk_at dksX21_operand_1 8 rfl rfl)
theorem dX21_operand_31 : decode cX21_operand 31 = .ok (.iconst (-1), 1) := dk_2 (dk_at dksX21_operand_1 9 rfl rfl)
theorem dX21_operand_32 : decode cX21_operand 32 = .ok (.if_icmp .eq 7, 3) := dk_159 0 7 (dk_at dksX21_operand_1 10 rfl rfl)
theorem dX21_operand_35 : decode cX21_operand 35 = .ok (.iconst 1, 1) := dk_4 (dk_at dksX21_operand_1 13 rfl rfl)
theorem dX21_operand_36 : decode cX21_operand 36 = .ok (.goto 4, 3) := dk_167 0 4 (dk_at dksX21_operand_1 14 rfl rfl)
theorem dX21_operand_39 : decode cX21_operand 39 = .ok (.iconst 0, 1) := dk_3 (dk_at dksX21_operand_1 17 rfl rfl)
theorem dX21_operand_40 : decode cX21_operand 40 = .ok (.iconst 1, 1) := dk_4 (dk_at dksX21_operand_1 18 rfl rfl)
theorem dX21_operand_41 : decode cX21_operand 41 = .ok (.invokevirtual 27, 3) := dk_182 0 27 (dk_at dksX21_operand_1 19 rfl rfl)
theorem dX21_operand_44 : decode cX21_operand 44 = .ok (.aload_n 0, 1) := dk_42 (dk_at dksX21_operand_1 22 rfl rfl)
theorem dX21_operand_45 : decode cX21_operand 45 = .ok (.invokevirtual 72, 3) := dk_182 0 72 (dk_at dksX21_operand_2 0 rfl rfl)
theorem dX21_operand_48 : decode cX21_operand 48 = .ok (.iload_n 1, 1) := dk_27 (dk_at dksX21_operand_2 3 rfl rfl)
theorem dX21_operand_49 : decode cX21_operand 49 = .ok (.ireturn, 1) := dk_172 (dk_at dksX21_operand_2 4 rfl rfl)
/-- PackingDuel$QueryParser.operand()I -/
def zb519 (G : zPg) (C : zO) (args : List Value) (Q : zQ) (Y : zY) (σ : zS) : Prop := ∃ (a0 : Nat), args = [.ref a0] ∧ (zgR σ (some a0) 26 6 (fun v1 => ((¬ v1 = (some (G.2 51))) → zrc σ (some a0) 26 (fun a11 => zcl C 316 [.ref a11] Y σ (zqR (fun v8 s9 => zcl C 80 [va_rf v8] Y s9 (zqI (fun v15 s16 => zJ (fun (p18 : Int32) (s19 : zS) => zrc s19 (some a0) 26 (fun a24 => zcl C 317 [.ref a24, .int p18, .int (1 : Int32)] Y s19 (zqV (fun s22 => zrc s22 (some a0) 26 (fun a31 => zcl C 311 [.ref a31] Y s22 (zqV (fun s29 => Q (some (.int v15)) s29))))))) (fun (j20 : Int32 → zS → Prop) => ((v15 = (-1 : Int32)) → j20 (0 : Int32) s16) ∧ ((¬ v15 = (-1 : Int32)) → j20 (1 : Int32) s16)))))))) ∧ ((v1 = (some (G.2 51))) → zrc σ (some a0) 26 (fun a39 => zcl C 318 [.ref a39, .int (0 : Int32), .int (9999 : Int32)] Y σ (zqI (fun v36 s37 => Q (some (.int ((-1 : Int32) - v36))) s37))))))
set_option maxHeartbeats 4000000 in
theorem wk519 {l : Launch} {g : zG} {d : Nat} {C : zO} (hG : zGk g) (hC : zSound l g d C) {args : List Value} {Q : zQ} {Y : zY} {σ : zS} (hw : zb519 (zpg g) C args Q Y σ) : zMet l g (d + 1) (⟨"PackingDuel$QueryParser", "operand", "()I"⟩, Cond.code ⟨"PackingDuel$QueryParser", "operand", "()I"⟩ prog_16_method_7_code 2 (Option.some FieldType.int)) args σ Q Y := by
  obtain ⟨a0, rfl, hw⟩ := hw
  refine zof hG (by decide +kernel) [false] ⟨rfl, trivial⟩ (Nat.le_of_ble_eq_true rfl) (ls := [some (va_rf (some a0)), none]) rfl ?_
  intro X hX hR hTb hd1 hd2 hl hg hnm
  subst hl
  subst hg
  have hd : zDep X d := ⟨hd1, hd2⟩
  refine z_aload_n hX dX21_operand_0 rfl (i := 0) rfl ?_
  obtain ⟨a2, f3, v1, r4, m5, e6, hw⟩ := hw
  refine z_get hX zc26 (k := 6) dX21_operand_1 (Nat.le_of_ble_eq_true rfl) (zlkS hX "PackingDuel$QueryParser" q1383 q1384) r4 m5 e6 ?_
  refine z_gets hX dX21_operand_4 (List.mem_of_getElem? (i := 1) rfl) q2278 rfl ?_
  show zW _ _ _ _ (va_rf (some (X.g.2.2.2 51)) :: _)
  refine z_acmp_ne hX dX21_operand_7 (tgt := 21) rfl (fun c7 => ?_) (fun c7 => ?_)
  · have hw := hw.1 c7
    refine z_aload_n hX dX21_operand_21 rfl (i := 0) rfl ?_
    obtain ⟨a11, f12, r13, m14, hw⟩ := hw
    refine z_invVU hX hd r13 (ci := 26) rfl rfl m14 dX21_operand_22 (hC 316 _ zm316 _ _ _ _ hw) q2242 q2243 (z_declA hX q1499) q1422 q2244 zh13 q1426 q142 (zn316) rfl (Nat.le_of_ble_eq_true rfl) (st := []) rfl (zcs8 (Nat.le_of_ble_eq_true rfl)) rfl (zkR (fun v8 s9 hw => ?_)) (zout hX hR hTb)
    refine z_invSN hX hd dX21_operand_25 (hC 80 _ zm80 _ _ _ _ hw) q2282 q2283 zh1 q2284 q130 zn80 rfl (Nat.le_of_ble_eq_true rfl) (st := []) rfl (zcs8 (Nat.le_of_ble_eq_true rfl)) rfl (zkI (fun v15 s16 hw => ?_)) (zout hX hR hTb)
    refine z_istore_n hX dX21_operand_28 rfl (i := 1) (Nat.le_of_ble_eq_true rfl) (zc_rf _) (ls2 := [some (va_rf (some a0)), some (.int v15)]) rfl ?_
    refine z_aload_n hX dX21_operand_29 rfl (i := 0) rfl ?_
    refine z_iload_n hX dX21_operand_30 rfl (i := 1) rfl ?_
    refine z_iconst hX (v := (-1 : Int32)) dX21_operand_31 (by decide) ?_
    refine zJ_w (P := fun (j : Int32 → zS → Prop) => ∀ (p18 : Int32) (s19 : zS), j p18 s19 → zW X s19 40 [some (va_rf (some a0)), some (.int v15)] [.int p18, va_rf (some a0)]) hw (fun p18 s19 hw => ?_) (fun j20 hj20 hw => ?_)
    · refine z_iconst hX (v := (1 : Int32)) dX21_operand_40 (by decide) ?_
      obtain ⟨a24, f25, r26, m27, hw⟩ := hw
      refine z_invVU hX hd r26 (ci := 26) rfl rfl m27 dX21_operand_41 (hC 317 _ zm317 _ _ _ _ hw) q2225 q2226 (z_declA hX q1439) q1441 q2227 zh13 q1442 q142 (zn317) rfl (Nat.le_of_ble_eq_true rfl) (st := []) rfl (zcs8 (Nat.le_of_ble_eq_true rfl)) rfl (zkV (fun s22 hw => ?_)) (zout hX hR hTb)
      refine z_aload_n hX dX21_operand_44 rfl (i := 0) rfl ?_
      obtain ⟨a31, f32, r33, m34, hw⟩ := hw
      refine z_invVU hX hd r33 (ci := 26) rfl rfl m34 dX21_operand_45 (hC 311 _ zm311 _ _ _ _ hw) q2251 q2252 (z_declA hX q1510) q1126 q2253 zh13 q1130 q142 (zn311) rfl (Nat.le_of_ble_eq_true rfl) (st := []) rfl (zcs8 (Nat.le_of_ble_eq_true rfl)) rfl (zkV (fun s29 hw => ?_)) (zout hX hR hTb)
      refine z_iload_n hX dX21_operand_48 rfl (i := 1) rfl ?_
      exact z_ireturn hX hR dX21_operand_49 rfl hw
    · refine z_icmp_eq hX dX21_operand_32 (tgt := 39) rfl (fun c35 => ?_) (fun c35 => ?_)
      · have hw := hw.1 c35
        refine z_iconst hX (v := (0 : Int32)) dX21_operand_39 (by decide) ?_
        exact hj20 _ _ hw
      · have hw := hw.2 c35
        refine z_iconst hX (v := (1 : Int32)) dX21_operand_35 (by decide) ?_
        refine z_goto hX dX21_operand_36 (tgt := 40) rfl ?_
        exact hj20 _ _ hw
  · have hw := hw.2 c7
    refine z_iconst hX (v := (-1 : Int32)) dX21_operand_10 (by decide) ?_
    refine z_aload_n hX dX21_operand_11 rfl (i := 0) rfl ?_
    refine z_iconst hX (v := (0 : Int32)) dX21_operand_12 (by decide) ?_
    refine z_sipush hX (v := (9999 : Int32)) dX21_operand_13 (by decide) ?_
    obtain ⟨a39, f40, r41, m42, hw⟩ := hw
    refine z_invVU hX hd r41 (ci := 26) rfl rfl m42 dX21_operand_16 (hC 318 _ zm318 _ _ _ _ hw) q2279 q2280 (z_declA hX q1473) q1475 q2281 zh13 q1476 q142 (zn318) rfl (Nat.le_of_ble_eq_true rfl) (st := [.int (-1 : Int32)]) rfl (zcs8 (Nat.le_of_ble_eq_true rfl)) rfl (zkI (fun v36 s37 hw => ?_)) (zout hX hR hTb)
    refine z_isub hX dX21_operand_19 ?_
    exact z_ireturn hX hR dX21_operand_20 rfl hw
def RX22 : String := "PackingDuel$Test"
abbrev cX22_init : ByteArray := prog_23_method_1_code
def yX22_init : MethodName := ⟨RX22, "<init>", "()V"⟩
theorem dX22_init_0 : decode cX22_init 0 = .ok (.aload_n 0, 1) := by decide +kernel
theorem dX22_init_1 : decode cX22_init 1 = .ok (.invokespecial 1, 3) := by decide +kernel
theorem dX22_init_4 : decode cX22_init 4 = .ok (.return_, 1) := by decide +kernel
/-- PackingDuel$Test.<init>()V -/
def zb520 (G : zPg) (C : zO) (args : List Value) (Q : zQ) (Y : zY) (σ : zS) : Prop := ∃ (a0 : Nat), args = [.ref a0] ∧ ((∃ a1, (some a0) = some a1 ∧ Q none σ))
set_option maxHeartbeats 4000000 in
theorem wk520 {l : Launch} {g : zG} {d : Nat} {C : zO} (hG : zGk g) (hC : zSound l g d C) {args : List Value} {Q : zQ} {Y : zY} {σ : zS} (hw : zb520 (zpg g) C args Q Y σ) : zMet l g (d + 1) (⟨"PackingDuel$Test", "<init>", "()V"⟩, Cond.code ⟨"PackingDuel$Test", "<init>", "()V"⟩ prog_23_method_1_code 1 (Option.none : Option FieldType)) args σ Q Y := by
  obtain ⟨a0, rfl, hw⟩ := hw
  refine zof hG (by decide +kernel) [false] ⟨rfl, trivial⟩ (Nat.le_of_ble_eq_true rfl) (ls := [some (va_rf (some a0))]) rfl ?_
  intro X hX hR hTb hd1 hd2 hl hg hnm
  subst hl
  subst hg
  have hd : zDep X d := ⟨hd1, hd2⟩
  refine z_aload_n hX dX22_init_0 rfl (i := 0) rfl ?_
  obtain ⟨a1, r2, hw⟩ := hw
  refine z_oinit hX hd dX22_init_1 q2262 q191 q192 r2 rfl (zcs8 (Nat.le_of_ble_eq_true rfl)) ?_
  exact z_return hX hR dX22_init_4 hw
abbrev cX23_init : ByteArray := prog_14_method_1_code
def yX23_init : MethodName := ⟨RX23, "<init>", "(LPackingDuel$Test;)V"⟩
def dkwX23_init_0 : List UInt8 := [42, 183, 0, 1, 42, 43, 181, 0, 7, 177]
abbrev dktX23_init_0 : List UInt8 := dkwX23_init_0 ++ []
theorem dksX23_init_0 : cX23_init.data.toList.drop 0 = dktX23_init_0 := by decide +kernel
theorem dX23_init_0 : decode cX23_init 0 = .ok (.aload_n 0, 1) := dk_42 (dk_at dksX23_init_0 0 rfl rfl)
theorem dX23_init_1 : decode cX23_init 1 = .ok (.invokespecial 1, 3) := dk_183 0 1 (dk_at dksX23_init_0 1 rfl rfl)
theorem dX23_init_4 : decode cX23_init 4 = .ok (.aload_n 0, 1) := dk_42 (dk_at dksX23_init_0 4 rfl rfl)
theorem dX23_init_5 : decode cX23_init 5 = .ok (.aload_n 1, 1) := dk_43 (dk_at dksX23_init_0 5 rfl rfl)
theorem dX23_init_6 : decode cX23_init 6 = .ok (.putfield 7, 3) := dk_181 0 7 (dk_at dksX23_init_0 6 rfl rfl)
theorem dX23_init_9 : decode cX23_init 9 = .ok (.return_, 1) := dk_177 (dk_at dksX23_init_0 9 rfl rfl)
/-- PackingDuel$Not.<init>(LPackingDuel$Test;)V -/
def zb521 (G : zPg) (C : zO) (args : List Value) (Q : zQ) (Y : zY) (σ : zS) : Prop := ∃ (a0 : Nat) (x1 : Option Nat), args = [.ref a0, va_rf x1] ∧ ((∃ a4, (some a0) = some a4 ∧ zcl C 520 [.ref a4] Y σ (zqV (fun s2 => zput s2 G.1 (some a0) 27 0 (va_rf x1) (fun s6 => Q none s6)))))
set_option maxHeartbeats 4000000 in
theorem wk521 {l : Launch} {g : zG} {d : Nat} {C : zO} (hG : zGk g) (hC : zSound l g d C) {args : List Value} {Q : zQ} {Y : zY} {σ : zS} (hw : zb521 (zpg g) C args Q Y σ) : zMet l g (d + 1) (⟨"PackingDuel$Not", "<init>", "(LPackingDuel$Test;)V"⟩, Cond.code ⟨"PackingDuel$Not", "<init>", "(LPackingDuel$Test;)V"⟩ prog_14_method_1_code 2 (Option.none : Option FieldType)) args σ Q Y := by
  obtain ⟨a0, x1, rfl, hw⟩ := hw
  refine zof hG (by decide +kernel) [false, false] ⟨rfl, (zc_rf _), trivial⟩ (Nat.le_of_ble_eq_true rfl) (ls := [some (va_rf (some a0)), some (va_rf x1)]) rfl ?_
  intro X hX hR hTb hd1 hd2 hl hg hnm
  subst hl
  subst hg
  have hd : zDep X d := ⟨hd1, hd2⟩
  refine z_aload_n hX dX23_init_0 rfl (i := 0) rfl ?_
  obtain ⟨a4, r5, hw⟩ := hw
  refine z_invIN hX hd r5 dX23_init_1 (hC 520 _ zm520 _ _ _ _ hw) q2259 q2260 rfl zh48 q2261 q181 zn520 rfl (Nat.le_of_ble_eq_true rfl) (st := []) rfl (zcs8 (Nat.le_of_ble_eq_true rfl)) rfl (zkV (fun s2 hw => ?_)) (zout hX hR hTb)
  refine z_aload_n hX dX23_init_4 rfl (i := 0) rfl ?_
  refine z_aload_n hX dX23_init_5 rfl (i := 1) rfl ?_
  obtain ⟨a8, f9, r10, g11, m12, l13, hw⟩ := hw
  refine z_putF hX zc27 (k := 0) dX23_init_6 (Nat.le_of_ble_eq_true rfl) q2263 rfl hnm rfl (zn_o _ _) (zf_o _ _) r10 g11 m12 l13 (z_nm (fun s6 e7 => ?_))
  have hw := hw s6 e7
  exact z_return hX hR dX23_init_9 hw
abbrev cX23_holds : ByteArray := prog_14_method_2_code
def yX23_holds : MethodName := ⟨RX23, "holds", "(LPackingDuel$State;I)Z"⟩
def dkwX23_holds_0 : List UInt8 := [42, 180, 0, 7, 43, 28, 182, 0, 13, 154, 0, 7, 4, 167, 0, 4, 3, 172]
abbrev dktX23_holds_0 : List UInt8 := dkwX23_holds_0 ++ []
theorem dksX23_holds_0 : cX23_holds.data.toList.drop 0 = dktX23_holds_0 := by decide +kernel
theorem dX23_holds_0 : decode cX23_holds 0 = .ok (.aload_n 0, 1) := dk_42 (dk_at dksX23_holds_0 0 rfl rfl)
theorem dX23_holds_1 : decode cX23_holds 1 = .ok (.getfield 7, 3) := dk_180 0 7 (dk_at dksX23_holds_0 1 rfl rfl)
theorem dX23_holds_4 : decode cX23_holds 4 = .ok (.aload_n 1, 1) := dk_43 (dk_at dksX23_holds_0 4 rfl rfl)
theorem dX23_holds_5 : decode cX23_holds 5 = .ok (.iload_n 2, 1) := dk_28 (dk_at dksX23_holds_0 5 rfl rfl)
theorem dX23_holds_6 : decode cX23_holds 6 = .ok (.invokevirtual 13, 3) := dk_182 0 13 (dk_at dksX23_holds_0 6 rfl rfl)
theorem dX23_holds_9 : decode cX23_holds 9 = .ok (.ifCond .ne 7, 3) := dk_154 0 7 (dk_at dksX23_holds_0 9 rfl rfl)
theorem dX23_holds_12 : decode cX23_holds 12 = .ok (.iconst 1, 1) := dk_4 (dk_at dksX23_holds_0 12 rfl rfl)
theorem dX23_holds_13 : decode cX23_holds 13 = .ok (.goto 4, 3) := dk_167 0 4 (dk_at dksX23_holds_0 13 rfl rfl)
theorem dX23_holds_16 : decode cX23_holds 16 = .ok (.iconst 0, 1) := dk_3 (dk_at dksX23_holds_0 16 rfl rfl)
theorem dX23_holds_17 : decode cX23_holds 17 = .ok (.ireturn, 1) := dk_172 (dk_at dksX23_holds_0 17 rfl rfl)
/-- PackingDuel$Not.holds(LPackingDuel$State;I)Z -/
def zb522 (G : zPg) (C : zO) (args : List Value) (Q : zQ) (Y : zY) (σ : zS) : Prop := ∃ (a0 : Nat) (x1 : Option Nat) (x2 : Int32), args = [.ref a0, va_rf x1, .int x2] ∧ (zgR σ (some a0) 27 0 (fun v1 => zJ (fun (v7 : Int32) (s8 : zS) => zJ (fun (p17 : Int32) (s18 : zS) => zbool p17 ∧ Q (some (.int p17)) s18) (fun (j19 : Int32 → zS → Prop) => ((¬ v7 = 0) → j19 (0 : Int32) s8) ∧ ((v7 = 0) → j19 (1 : Int32) s8))) (fun (j10 : Int32 → zS → Prop) => zrcM σ v1 [27, 28, 29] (fun a11 c12 => (c12 = 27 → zcl C 522 [.ref a11, va_rf x1, .int x2] Y σ (zqI j10)) ∧ (c12 = 28 → zcl C 524 [.ref a11, va_rf x1, .int x2] Y σ (zqI j10)) ∧ (c12 = 29 → zcl C 527 [.ref a11, va_rf x1, .int x2] Y σ (zqI j10))))))
set_option maxHeartbeats 4000000 in
theorem wk522 {l : Launch} {g : zG} {d : Nat} {C : zO} (hG : zGk g) (hC : zSound l g d C) {args : List Value} {Q : zQ} {Y : zY} {σ : zS} (hw : zb522 (zpg g) C args Q Y σ) : zMet l g (d + 1) (⟨"PackingDuel$Not", "holds", "(LPackingDuel$State;I)Z"⟩, Cond.code ⟨"PackingDuel$Not", "holds", "(LPackingDuel$State;I)Z"⟩ prog_14_method_2_code 3 (Option.some FieldType.boolean)) args σ Q Y := by
  obtain ⟨a0, x1, x2, rfl, hw⟩ := hw
  refine zof hG (by decide +kernel) [false, false, false] ⟨rfl, (zc_rf _), rfl, trivial⟩ (Nat.le_of_ble_eq_true rfl) (ls := [some (va_rf (some a0)), some (va_rf x1), some (.int x2)]) rfl ?_
  intro X hX hR hTb hd1 hd2 hl hg hnm
  subst hl
  subst hg
  have hd : zDep X d := ⟨hd1, hd2⟩
  refine z_aload_n hX dX23_holds_0 rfl (i := 0) rfl ?_
  obtain ⟨a2, f3, v1, r4, m5, e6, hw⟩ := hw
  refine z_get hX zc27 (k := 0) dX23_holds_1 (Nat.le_of_ble_eq_true rfl) (zlk hX q2263) r4 m5 e6 ?_
  refine z_aload_n hX dX23_holds_4 rfl (i := 1) rfl ?_
  refine z_iload_n hX dX23_holds_5 rfl (i := 2) rfl ?_
  refine zJ_v (P := fun (j : Int32 → zS → Prop) => ∀ (v7 : Int32) (s8 : zS), j v7 s8 → zW X s8 9 [some (va_rf (some a0)), some (va_rf x1), some (.int x2)] [.int v7]) hw (fun j10 hj10 hw => ?_) (fun v7 s8 hw => ?_)
  · obtain ⟨a11, c12, f13, r14, h15, m16, hw⟩ := hw
    simp only [List.mem_cons, List.not_mem_nil, or_false] at h15
    rcases h15 with rfl | rfl | rfl
    · have hw := hw.1 rfl
      refine z_invVU hX hd r14 (ci := 27) rfl rfl m16 dX23_holds_6 (hC 522 _ zm522 _ _ _ _ hw) q2447 q2393 (z_declA hX q2392) q2445 q2448 zh48 q2446 q182 (zn522) rfl (Nat.le_of_ble_eq_true rfl) (st := []) rfl (zcs8 (Nat.le_of_ble_eq_true rfl)) rfl (zkI (fun v7 s8 hw => ?_)) (zout hX hR hTb)
      exact hj10 _ _ hw
    · have hw := hw.2.1 rfl
      refine z_invVU hX hd r14 (ci := 28) rfl rfl m16 dX23_holds_6 (hC 524 _ zm524 _ _ _ _ hw) q2447 q2393 (z_declA hX q2392) q2395 q2394 zh48 q2396 q183 (zn524) rfl (Nat.le_of_ble_eq_true rfl) (st := []) rfl (zcs8 (Nat.le_of_ble_eq_true rfl)) rfl (zkI (fun v7 s8 hw => ?_)) (zout hX hR hTb)
      exact hj10 _ _ hw
    · have hw := hw.2.2 rfl
      refine z_invVU hX hd r14 (ci := 29) rfl rfl m16 dX23_holds_6 (hC 527 _ zm527 _ _ _ _ hw) q2447 q2393 (z_declA hX q2392) q2439 q2438 zh48 q2440 q184 (zn527) rfl (Nat.le_of_ble_eq_true rfl) (st := []) rfl (zcs8 (Nat.le_of_ble_eq_true rfl)) rfl (zkI (fun v7 s8 hw => ?_)) (zout hX hR hTb)
      exact hj10 _ _ hw
  refine zJ_w (P := fun (j : Int32 → zS → Prop) => ∀ (p17 : Int32) (s18 : zS), j p17 s18 → zW X s18 17 [none, none, none] [.int p17]) hw (fun p17 s18 hw => ?_) (fun j19 hj19 hw => ?_)
  · exact z_ireturn hX hR dX23_holds_17 (zn_z hw.1) hw.2
  · refine z_if_ne hX dX23_holds_9 (tgt := 16) rfl (fun c20 => ?_) (fun c20 => ?_)
    · have hw := hw.1 c20
      refine z_iconst hX (v := (0 : Int32)) dX23_holds_16 (by decide) ?_
      refine z_sub (ls' := [none, none, none]) (zsN (zsN (zsN (zs0)))) ?_
      exact hj19 _ _ hw
    · have hw := hw.2 c20
      refine z_iconst hX (v := (1 : Int32)) dX23_holds_12 (by decide) ?_
      refine z_goto hX dX23_holds_13 (tgt := 17) rfl ?_
      refine z_sub (ls' := [none, none, none]) (zsN (zsN (zsN (zs0)))) ?_
      exact hj19 _ _ hw
abbrev cX24_init : ByteArray := prog_3_method_1_code
def yX24_init : MethodName := ⟨RX24, "<init>", "(III)V"⟩
def dkwX24_init_0 : List UInt8 := [42, 183, 0, 1, 42, 27, 181, 0, 7, 42, 28, 181, 0, 13, 42, 29, 181, 0, 16, 177]
abbrev dktX24_init_0 : List UInt8 := dkwX24_init_0 ++ []
theorem dksX24_init_0 : cX24_init.data.toList.drop 0 = dktX24_init_0 := by decide +kernel
theorem dX24_init_0 : decode cX24_init 0 = .ok (.aload_n 0, 1) := dk_42 (dk_at dksX24_init_0 0 rfl rfl)
theorem dX24_init_1 : decode cX24_init 1 = .ok (.invokespecial 1, 3) := dk_183 0 1 (dk_at dksX24_init_0 1 rfl rfl)
theorem dX24_init_4 : decode cX24_init 4 = .ok (.aload_n 0, 1) := dk_42 (dk_at dksX24_init_0 4 rfl rfl)
theorem dX24_init_5 : decode cX24_init 5 = .ok (.iload_n 1, 1) := dk_27 (dk_at dksX24_init_0 5 rfl rfl)
theorem dX24_init_6 : decode cX24_init 6 = .ok (.putfield 7, 3) := dk_181 0 7 (dk_at dksX24_init_0 6 rfl rfl)
theorem dX24_init_9 : decode cX24_init 9 = .ok (.aload_n 0, 1) := dk_42 (dk_at dksX24_init_0 9 rfl rfl)
theorem dX24_init_10 : decode cX24_init 10 = .ok (.iload_n 2, 1) := dk_28 (dk_at dksX24_init_0 10 rfl rfl)
theorem dX24_init_11 : decode cX24_init 11 = .ok (.putfield 13, 3) := dk_181 0 13 (dk_at dksX24_init_0 11 rfl rfl)
theorem dX24_init_14 : decode cX24_init 14 = .ok (.aload_n 0, 1) := dk_42 (dk_at dksX24_init_0 14 rfl rfl)
theorem dX24_init_15 : decode cX24_init 15 = .ok (.iload_n 3, 1) := dk_29 (dk_at dksX24_init_0 15 rfl rfl)
theorem dX24_init_16 : decode cX24_init 16 = .ok (.putfield 16, 3) := dk_181 0 16 (dk_at dksX24_init_0 16 rfl rfl)
theorem dX24_init_19 : decode cX24_init 19 = .ok (.return_, 1) := dk_177 (dk_at dksX24_init_0 19 rfl rfl)
/-- PackingDuel$Comparison.<init>(III)V -/
def zb523 (G : zPg) (C : zO) (args : List Value) (Q : zQ) (Y : zY) (σ : zS) : Prop := ∃ (a0 : Nat) (x1 : Int32) (x2 : Int32) (x3 : Int32), args = [.ref a0, .int x1, .int x2, .int x3] ∧ ((∃ a4, (some a0) = some a4 ∧ zcl C 520 [.ref a4] Y σ (zqV (fun s2 => zput s2 G.1 (some a0) 28 0 (.int x1) (fun s6 => zput s6 G.1 (some a0) 28 1 (.int x2) (fun s14 => zput s14 G.1 (some a0) 28 2 (.int x3) (fun s22 => Q none s22)))))))
set_option maxHeartbeats 4000000 in
theorem wk523 {l : Launch} {g : zG} {d : Nat} {C : zO} (hG : zGk g) (hC : zSound l g d C) {args : List Value} {Q : zQ} {Y : zY} {σ : zS} (hw : zb523 (zpg g) C args Q Y σ) : zMet l g (d + 1) (⟨"PackingDuel$Comparison", "<init>", "(III)V"⟩, Cond.code ⟨"PackingDuel$Comparison", "<init>", "(III)V"⟩ prog_3_method_1_code 4 (Option.none : Option FieldType)) args σ Q Y := by
  obtain ⟨a0, x1, x2, x3, rfl, hw⟩ := hw
  refine zof hG (by decide +kernel) [false, false, false, false] ⟨rfl, rfl, rfl, rfl, trivial⟩ (Nat.le_of_ble_eq_true rfl) (ls := [some (va_rf (some a0)), some (.int x1), some (.int x2), some (.int x3)]) rfl ?_
  intro X hX hR hTb hd1 hd2 hl hg hnm
  subst hl
  subst hg
  have hd : zDep X d := ⟨hd1, hd2⟩
  refine z_aload_n hX dX24_init_0 rfl (i := 0) rfl ?_
  obtain ⟨a4, r5, hw⟩ := hw
  refine z_invIN hX hd r5 dX24_init_1 (hC 520 _ zm520 _ _ _ _ hw) q2363 q2260 rfl zh48 q2261 q181 zn520 rfl (Nat.le_of_ble_eq_true rfl) (st := []) rfl (zcs8 (Nat.le_of_ble_eq_true rfl)) rfl (zkV (fun s2 hw => ?_)) (zout hX hR hTb)
  refine z_aload_n hX dX24_init_4 rfl (i := 0) rfl ?_
  refine z_iload_n hX dX24_init_5 rfl (i := 1) rfl ?_
  obtain ⟨a8, f9, r10, g11, m12, l13, hw⟩ := hw
  refine z_putF hX zc28 (k := 0) dX24_init_6 (Nat.le_of_ble_eq_true rfl) q2364 rfl hnm rfl rfl rfl r10 g11 m12 l13 (z_nm (fun s6 e7 => ?_))
  have hw := hw s6 e7
  refine z_aload_n hX dX24_init_9 rfl (i := 0) rfl ?_
  refine z_iload_n hX dX24_init_10 rfl (i := 2) rfl ?_
  obtain ⟨a16, f17, r18, g19, m20, l21, hw⟩ := hw
  refine z_putF hX zc28 (k := 1) dX24_init_11 (Nat.le_of_ble_eq_true rfl) q2365 rfl hnm rfl rfl rfl r18 g19 m20 l21 (z_nm (fun s14 e15 => ?_))
  have hw := hw s14 e15
  refine z_aload_n hX dX24_init_14 rfl (i := 0) rfl ?_
  refine z_iload_n hX dX24_init_15 rfl (i := 3) rfl ?_
  obtain ⟨a24, f25, r26, g27, m28, l29, hw⟩ := hw
  refine z_putF hX zc28 (k := 2) dX24_init_16 (Nat.le_of_ble_eq_true rfl) q2366 rfl hnm rfl rfl rfl r26 g27 m28 l29 (z_nm (fun s22 e23 => ?_))
  have hw := hw s22 e23
  exact z_return hX hR dX24_init_19 hw
abbrev cX24_holds : ByteArray := prog_3_method_2_code
def yX24_holds : MethodName := ⟨RX24, "holds", "(LPackingDuel$State;I)Z"⟩
def dkwX24_holds_3 : List UInt8 := [21, 4, 160, 0, 7, 4, 167, 0, 4, 3, 172]
abbrev dktX24_holds_3 : List UInt8 := dkwX24_holds_3 ++ []
def dkwX24_holds_2 : List UInt8 := [180, 0, 13, 16, 62, 160, 0, 17, 29, 21, 4, 164, 0, 7, 4, 167, 0, 18, 3, 167, 0, 14, 29]
abbrev dktX24_holds_2 : List UInt8 := dkwX24_holds_2 ++ dktX24_holds_3
def dkwX24_holds_1 : List UInt8 := [180, 0, 13, 16, 60, 160, 0, 17, 29, 21, 4, 162, 0, 7, 4, 167, 0, 41, 3, 167, 0, 37, 42]
abbrev dktX24_holds_1 : List UInt8 := dkwX24_holds_1 ++ dktX24_holds_2
def dkwX24_holds_0 : List UInt8 := [42, 180, 0, 7, 43, 28, 184, 0, 19, 62, 42, 180, 0, 16, 43, 28, 184, 0, 19, 54, 4, 42]
abbrev dktX24_holds_0 : List UInt8 := dkwX24_holds_0 ++ dktX24_holds_1
theorem dksX24_holds_0 : cX24_holds.data.toList.drop 0 = dktX24_holds_0 := by decide +kernel
theorem dksX24_holds_1 : cX24_holds.data.toList.drop 22 = dktX24_holds_1 := dk_seg dksX24_holds_0 22 rfl rfl
theorem dksX24_holds_2 : cX24_holds.data.toList.drop 45 = dktX24_holds_2 := dk_seg dksX24_holds_1 23 rfl rfl
theorem dksX24_holds_3 : cX24_holds.data.toList.drop 68 = dktX24_holds_3 := dk_seg dksX24_holds_2 23 rfl rfl
theorem dX24_holds_0 : decode cX24_holds 0 = .ok (.aload_n 0, 1) := dk_42 (dk_at dksX24_holds_0 0 rfl rfl)
theorem dX24_holds_1 : decode cX24_holds 1 = .ok (.getfield 7, 3) := dk_180 0 7 (dk_at dksX24_holds_0 1 rfl rfl)
theorem dX24_holds_4 : decode cX24_holds 4 = .ok (.aload_n 1, 1) := dk_43 (dk_at dksX24_holds_0 4 rfl rfl)
theorem dX24_holds_5 : decode cX24_holds 5 = .ok (.iload_n 2, 1) := dk_28 (dk_at dksX24_holds_0 5 rfl rfl)
theorem dX24_holds_6 : decode cX24_holds 6 = .ok (.invokestatic 19, 3) := dk_184 0 19 (dk_at dksX24_holds_0 6 rfl rfl)
theorem dX24_holds_9 : decode cX24_holds 9 = .ok (.istore_n 3, 1) := dk_62 (dk_at dksX24_holds_0 9 rfl rfl)
theorem dX24_holds_10 : decode cX24_holds 10 = .ok (.aload_n 0, 1) := dk_42 (dk_at dksX24_holds_0 10 rfl rfl)
theorem dX24_holds_11 : decode cX24_holds 11 = .ok (.getfield 16, 3) := dk_180 0 16 (dk_at dksX24_holds_0 11 rfl rfl)
theorem dX24_holds_14 : decode cX24_holds 14 = .ok (.aload_n 1, 1) := dk_43 (dk_at dksX24_holds_0 14 rfl rfl)
theorem dX24_holds_15 : decode cX24_holds 15 = .ok (.iload_n 2, 1) := dk_28 (dk_at dksX24_holds_0 15 rfl rfl)
theorem dX24_holds_16 : decode cX24_holds 16 = .ok (.invokestatic 19, 3) := dk_184 0 19 (dk_at dksX24_holds_0 16 rfl rfl)
theorem dX24_holds_19 : decode cX24_holds 19 = .ok (.istore 4, 2) := dk_54 4 (dk_at dksX24_holds_0 19 rfl rfl)
theorem dX24_holds_21 : decode cX24_holds 21 = .ok (.aload_n 0, 1) := dk_42 (dk_at dksX24_holds_0 21 rfl rfl)
theorem dX24_holds_22 : decode cX24_holds 22 = .ok (.getfield 13, 3) := dk_180 0 13 (dk_at dksX24_holds_1 0 rfl rfl)
theorem dX24_holds_25 : decode cX24_holds 25 = .ok (.bipush 60, 2) := dk_16 60 (dk_at dksX24_holds_1 3 rfl rfl)
theorem dX24_holds_27 : decode cX24_holds 27 = .ok (.if_icmp .ne 17, 3) := dk_160 0 17 (dk_at dksX24_holds_1 5 rfl rfl)
theorem dX24_holds_30 : decode cX24_holds 30 = .ok (.iload_n 3, 1) := dk_29 (dk_at dksX24_holds_1 8 rfl rfl)
theorem dX24_holds_31 : decode cX24_holds 31 = .ok (.iload 4, 2) := dk_21 4 (dk_at dksX24_holds_1 9 rfl rfl)
theorem dX24_holds_33 : decode cX24_holds 33 = .ok (.if_icmp .ge 7, 3) := dk_162 0 7 (dk_at dksX24_holds_1 11 rfl rfl)
theorem dX24_holds_36 : decode cX24_holds 36 = .ok (.iconst 1, 1) := dk_4 (dk_at dksX24_holds_1 14 rfl rfl)
theorem dX24_holds_37 : decode cX24_holds 37 = .ok (.goto 41, 3) := dk_167 0 41 (dk_at dksX24_holds_1 15 rfl rfl)
theorem dX24_holds_40 : decode cX24_holds 40 = .ok (.iconst 0, 1) := dk_3 (dk_at dksX24_holds_1 18 rfl rfl)
theorem dX24_holds_41 : decode cX24_holds 41 = .ok (.goto 37, 3) := dk_167 0 37 (dk_at dksX24_holds_1 19 rfl rfl)
theorem dX24_holds_44 : decode cX24_holds 44 = .ok (.aload_n 0, 1) := dk_42 (dk_at dksX24_holds_1 22 rfl rfl)
theorem dX24_holds_45 : decode cX24_holds 45 = .ok (.getfield 13, 3) := dk_180 0 13 (dk_at dksX24_holds_2 0 rfl rfl)
theorem dX24_holds_48 : decode cX24_holds 48 = .ok (.bipush 62, 2) := dk_16 62 (dk_at dksX24_holds_2 3 rfl rfl)
theorem dX24_holds_50 : decode cX24_holds 50 = .ok (.if_icmp .ne 17, 3) := dk_160 0 17 (dk_at dksX24_holds_2 5 rfl rfl)
theorem dX24_holds_53 : decode cX24_holds 53 = .ok (.iload_n 3, 1) := dk_29 (dk_at dksX24_holds_2 8 rfl rfl)
theorem dX24_holds_54 : decode cX24_holds 54 = .ok (.iload 4, 2) := dk_21 4 (dk_at dksX24_holds_2 9 rfl rfl)
theorem dX24_holds_56 : decode cX24_holds 56 = .ok (.if_icmp .le 7, 3) := dk_164 0 7 (dk_at dksX24_holds_2 11 rfl rfl)
theorem dX24_holds_59 : decode cX24_holds 59 = .ok (.iconst 1, 1) := dk_4 (dk_at dksX24_holds_2 14 rfl rfl)
theorem dX24_holds_60 : decode cX24_holds 60 = .ok (.goto 18, 3) := dk_167 0 18 (dk_at dksX24_holds_2 15 rfl rfl)
theorem dX24_holds_63 : decode cX24_holds 63 = .ok (.iconst 0, 1) := dk_3 (dk_at dksX24_holds_2 18 rfl rfl)
theorem dX24_holds_64 : decode cX24_holds 64 = .ok (.goto 14, 3) := dk_167 0 14 (dk_at dksX24_holds_2 19 rfl rfl)
theorem dX24_holds_67 : decode cX24_holds 67 = .ok (.iload_n 3, 1) := dk_29 (dk_at dksX24_holds_2 22 rfl rfl)
theorem dX24_holds_68 : decode cX24_holds 68 = .ok (.iload 4, 2) := dk_21 4 (dk_at dksX24_holds_3 0 rfl rfl)
theorem dX24_holds_70 : decode cX24_holds 70 = .ok (.if_icmp .ne 7, 3) := dk_160 0 7 (dk_at dksX24_holds_3 2 rfl rfl)
theorem dX24_holds_73 : decode cX24_holds 73 = .ok (.iconst 1, 1) := dk_4 (dk_at dksX24_holds_3 5 rfl rfl)
theorem dX24_holds_74 : decode cX24_holds 74 = .ok (.goto 4, 3) := dk_167 0 4 (dk_at dksX24_holds_3 6 rfl rfl)
theorem dX24_holds_77 : decode cX24_holds 77 = .ok (.iconst 0, 1) := dk_3 (dk_at dksX24_holds_3 9 rfl rfl)
theorem dX24_holds_78 : decode cX24_holds 78 = .ok (.ireturn, 1) := dk_172 (dk_at dksX24_holds_3 10 rfl rfl)
/-- PackingDuel$Comparison.holds(LPackingDuel$State;I)Z -/
def zb524 (G : zPg) (C : zO) (args : List Value) (Q : zQ) (Y : zY) (σ : zS) : Prop := ∃ (a0 : Nat) (x1 : Option Nat) (x2 : Int32), args = [.ref a0, va_rf x1, .int x2] ∧ (zgI σ (some a0) 28 0 (fun v1 => zcl C 525 [.int v1, va_rf x1, .int x2] Y σ (zqI (fun v7 s8 => zgI s8 (some a0) 28 2 (fun v10 => zcl C 525 [.int v10, va_rf x1, .int x2] Y s8 (zqI (fun v16 s17 => zgI s17 (some a0) 28 1 (fun v19 => zJ (fun (p25 : Int32) (s26 : zS) => zbool p25 ∧ Q (some (.int p25)) s26) (fun (j27 : Int32 → zS → Prop) => ((¬ v19 = (60 : Int32)) → zgI s17 (some a0) 28 1 (fun v29 => ((¬ v29 = (62 : Int32)) → ((¬ v7 = v16) → j27 (0 : Int32) s17) ∧ ((v7 = v16) → j27 (1 : Int32) s17)) ∧ ((v29 = (62 : Int32)) → ((v7 ≤ v16) → j27 (0 : Int32) s17) ∧ ((¬ v7 ≤ v16) → j27 (1 : Int32) s17)))) ∧ ((v19 = (60 : Int32)) → ((v16 ≤ v7) → j27 (0 : Int32) s17) ∧ ((¬ v16 ≤ v7) → j27 (1 : Int32) s17)))))))))))
set_option maxHeartbeats 4000000 in
theorem wk524 {l : Launch} {g : zG} {d : Nat} {C : zO} (hG : zGk g) (hC : zSound l g d C) {args : List Value} {Q : zQ} {Y : zY} {σ : zS} (hw : zb524 (zpg g) C args Q Y σ) : zMet l g (d + 1) (⟨"PackingDuel$Comparison", "holds", "(LPackingDuel$State;I)Z"⟩, Cond.code ⟨"PackingDuel$Comparison", "holds", "(LPackingDuel$State;I)Z"⟩ prog_3_method_2_code 5 (Option.some FieldType.boolean)) args σ Q Y := by
  obtain ⟨a0, x1, x2, rfl, hw⟩ := hw
  refine zof hG (by decide +kernel) [false, false, false] ⟨rfl, (zc_rf _), rfl, trivial⟩ (Nat.le_of_ble_eq_true rfl) (ls := [some (va_rf (some a0)), some (va_rf x1), some (.int x2), none, none]) rfl ?_
  intro X hX hR hTb hd1 hd2 hl hg hnm
  subst hl
  subst hg
  have hd : zDep X d := ⟨hd1, hd2⟩
  refine z_aload_n hX dX24_holds_0 rfl (i := 0) rfl ?_
  obtain ⟨a2, f3, v1, r4, m5, e6, hw⟩ := hw
  refine z_get hX zc28 (k := 0) dX24_holds_1 (Nat.le_of_ble_eq_true rfl) (zlk hX q2364) r4 m5 e6 ?_
  refine z_aload_n hX dX24_holds_4 rfl (i := 1) rfl ?_
  refine z_iload_n hX dX24_holds_5 rfl (i := 2) rfl ?_
  refine z_invS hX hd dX24_holds_6 (hC 525 _ zm525 _ _ _ _ hw) q2397 q2398 zh50 q2399 q183 zn525 rfl (Nat.le_of_ble_eq_true rfl) (st := []) rfl (zcs8 (Nat.le_of_ble_eq_true rfl)) rfl (zkI (fun v7 s8 hw => ?_)) (zout hX hR hTb)
  refine z_istore_n hX dX24_holds_9 rfl (i := 3) (Nat.le_of_ble_eq_true rfl) rfl (ls2 := [some (va_rf (some a0)), some (va_rf x1), some (.int x2), some (.int v7), none]) rfl ?_
  refine z_aload_n hX dX24_holds_10 rfl (i := 0) rfl ?_
  obtain ⟨a11, f12, v10, r13, m14, e15, hw⟩ := hw
  refine z_get hX zc28 (k := 2) dX24_holds_11 (Nat.le_of_ble_eq_true rfl) (zlk hX q2366) r13 m14 e15 ?_
  refine z_aload_n hX dX24_holds_14 rfl (i := 1) rfl ?_
  refine z_iload_n hX dX24_holds_15 rfl (i := 2) rfl ?_
  refine z_invS hX hd dX24_holds_16 (hC 525 _ zm525 _ _ _ _ hw) q2397 q2398 zh50 q2399 q183 zn525 rfl (Nat.le_of_ble_eq_true rfl) (st := []) rfl (zcs8 (Nat.le_of_ble_eq_true rfl)) rfl (zkI (fun v16 s17 hw => ?_)) (zout hX hR hTb)
  refine z_istore hX dX24_holds_19 (i := 4) (Nat.le_of_ble_eq_true rfl) rfl (ls2 := [some (va_rf (some a0)), some (va_rf x1), some (.int x2), some (.int v7), some (.int v16)]) rfl ?_
  refine z_aload_n hX dX24_holds_21 rfl (i := 0) rfl ?_
  obtain ⟨a20, f21, v19, r22, m23, e24, hw⟩ := hw
  refine z_get hX zc28 (k := 1) dX24_holds_22 (Nat.le_of_ble_eq_true rfl) (zlk hX q2365) r22 m23 e24 ?_
  refine z_bipush hX (v := (60 : Int32)) dX24_holds_25 (by decide) ?_
  refine zJ_w (P := fun (j : Int32 → zS → Prop) => ∀ (p25 : Int32) (s26 : zS), j p25 s26 → zW X s26 78 [none, none, none, none, none] [.int p25]) hw (fun p25 s26 hw => ?_) (fun j27 hj27 hw => ?_)
  · exact z_ireturn hX hR dX24_holds_78 (zn_z hw.1) hw.2
  · refine z_icmp_ne hX dX24_holds_27 (tgt := 44) rfl (fun c28 => ?_) (fun c28 => ?_)
    · have hw := hw.1 c28
      refine z_aload_n hX dX24_holds_44 rfl (i := 0) rfl ?_
      obtain ⟨a30, f31, v29, r32, m33, e34, hw⟩ := hw
      refine z_get hX zc28 (k := 1) dX24_holds_45 (Nat.le_of_ble_eq_true rfl) (zlk hX q2365) r32 m33 e34 ?_
      refine z_bipush hX (v := (62 : Int32)) dX24_holds_48 (by decide) ?_
      refine z_icmp_ne hX dX24_holds_50 (tgt := 67) rfl (fun c35 => ?_) (fun c35 => ?_)
      · have hw := hw.1 c35
        refine z_iload_n hX dX24_holds_67 rfl (i := 3) rfl ?_
        refine z_iload hX dX24_holds_68 (i := 4) rfl ?_
        refine z_icmp_ne hX dX24_holds_70 (tgt := 77) rfl (fun c36 => ?_) (fun c36 => ?_)
        · have hw := hw.1 c36
          refine z_iconst hX (v := (0 : Int32)) dX24_holds_77 (by decide) ?_
          refine z_sub (ls' := [none, none, none, none, none]) (zsN (zsN (zsN (zsN (zsN (zs0)))))) ?_
          exact hj27 _ _ hw
        · have hw := hw.2 c36
          refine z_iconst hX (v := (1 : Int32)) dX24_holds_73 (by decide) ?_
          refine z_goto hX dX24_holds_74 (tgt := 78) rfl ?_
          refine z_sub (ls' := [none, none, none, none, none]) (zsN (zsN (zsN (zsN (zsN (zs0)))))) ?_
          exact hj27 _ _ hw
      · have hw := hw.2 c35
        refine z_iload_n hX dX24_holds_53 rfl (i := 3) rfl ?_
        refine z_iload hX dX24_holds_54 (i := 4) rfl ?_
        refine z_icmp_le hX dX24_holds_56 (tgt := 63) rfl (fun c37 => ?_) (fun c37 => ?_)
        · have hw := hw.1 c37
          refine z_iconst hX (v := (0 : Int32)) dX24_holds_63 (by decide) ?_
          refine z_goto hX dX24_holds_64 (tgt := 78) rfl ?_
          refine z_sub (ls' := [none, none, none, none, none]) (zsN (zsN (zsN (zsN (zsN (zs0)))))) ?_
          exact hj27 _ _ hw
        · have hw := hw.2 c37
          refine z_iconst hX (v := (1 : Int32)) dX24_holds_59 (by decide) ?_
          refine z_goto hX dX24_holds_60 (tgt := 78) rfl ?_
          refine z_sub (ls' := [none, none, none, none, none]) (zsN (zsN (zsN (zsN (zsN (zs0)))))) ?_
          exact hj27 _ _ hw
    · have hw := hw.2 c28
      refine z_iload_n hX dX24_holds_30 rfl (i := 3) rfl ?_
      refine z_iload hX dX24_holds_31 (i := 4) rfl ?_
      refine z_icmp_ge hX dX24_holds_33 (tgt := 40) rfl (fun c38 => ?_) (fun c38 => ?_)
      · have hw := hw.1 c38
        refine z_iconst hX (v := (0 : Int32)) dX24_holds_40 (by decide) ?_
        refine z_goto hX dX24_holds_41 (tgt := 78) rfl ?_
        refine z_sub (ls' := [none, none, none, none, none]) (zsN (zsN (zsN (zsN (zsN (zs0)))))) ?_
        exact hj27 _ _ hw
      · have hw := hw.2 c38
        refine z_iconst hX (v := (1 : Int32)) dX24_holds_36 (by decide) ?_
        refine z_goto hX dX24_holds_37 (tgt := 78) rfl ?_
        refine z_sub (ls' := [none, none, none, none, none]) (zsN (zsN (zsN (zsN (zsN (zs0)))))) ?_
        exact hj27 _ _ hw
abbrev cX25_init : ByteArray := prog_9_method_1_code
def yX25_init : MethodName := ⟨RX25, "<init>", "(Ljava/util/ArrayList;Z)V"⟩
def dkwX25_init_0 : List UInt8 := [42, 183, 0, 1, 42, 43, 181, 0, 7, 42, 28, 181, 0, 13, 177]
abbrev dktX25_init_0 : List UInt8 := dkwX25_init_0 ++ []
theorem dksX25_init_0 : cX25_init.data.toList.drop 0 = dktX25_init_0 := by decide +kernel
theorem dX25_init_0 : decode cX25_init 0 = .ok (.aload_n 0, 1) := dk_42 (dk_at dksX25_init_0 0 rfl rfl)
theorem dX25_init_1 : decode cX25_init 1 = .ok (.invokespecial 1, 3) := dk_183 0 1 (dk_at dksX25_init_0 1 rfl rfl)
theorem dX25_init_4 : decode cX25_init 4 = .ok (.aload_n 0, 1) := dk_42 (dk_at dksX25_init_0 4 rfl rfl)
theorem dX25_init_5 : decode cX25_init 5 = .ok (.aload_n 1, 1) := dk_43 (dk_at dksX25_init_0 5 rfl rfl)
theorem dX25_init_6 : decode cX25_init 6 = .ok (.putfield 7, 3) := dk_181 0 7 (dk_at dksX25_init_0 6 rfl rfl)
theorem dX25_init_9 : decode cX25_init 9 = .ok (.aload_n 0, 1) := dk_42 (dk_at dksX25_init_0 9 rfl rfl)
theorem dX25_init_10 : decode cX25_init 10 = .ok (.iload_n 2, 1) := dk_28 (dk_at dksX25_init_0 10 rfl rfl)
theorem dX25_init_11 : decode cX25_init 11 = .ok (.putfield 13, 3) := dk_181 0 13 (dk_at dksX25_init_0 11 rfl rfl)
theorem dX25_init_14 : decode cX25_init 14 = .ok (.return_, 1) := dk_177 (dk_at dksX25_init_0 14 rfl rfl)
/-- PackingDuel$Joined.<init>(Ljava/util/ArrayList;Z)V -/
def zb526 (G : zPg) (C : zO) (args : List Value) (Q : zQ) (Y : zY) (σ : zS) : Prop := ∃ (a0 : Nat) (x1 : Option Nat) (x2 : Int32), args = [.ref a0, va_rf x1, .int x2] ∧ ((∃ a4, (some a0) = some a4 ∧ zcl C 520 [.ref a4] Y σ (zqV (fun s2 => zput s2 G.1 (some a0) 29 0 (va_rf x1) (fun s6 => (zbool x2 ∧ zput s6 G.1 (some a0) 29 1 (.int x2) (fun s14 => Q none s14)))))))
set_option maxHeartbeats 4000000 in
theorem wk526 {l : Launch} {g : zG} {d : Nat} {C : zO} (hG : zGk g) (hC : zSound l g d C) {args : List Value} {Q : zQ} {Y : zY} {σ : zS} (hw : zb526 (zpg g) C args Q Y σ) : zMet l g (d + 1) (⟨"PackingDuel$Joined", "<init>", "(Ljava/util/ArrayList;Z)V"⟩, Cond.code ⟨"PackingDuel$Joined", "<init>", "(Ljava/util/ArrayList;Z)V"⟩ prog_9_method_1_code 3 (Option.none : Option FieldType)) args σ Q Y := by
  obtain ⟨a0, x1, x2, rfl, hw⟩ := hw
  refine zof hG (by decide +kernel) [false, false, false] ⟨rfl, (zc_rf _), rfl, trivial⟩ (Nat.le_of_ble_eq_true rfl) (ls := [some (va_rf (some a0)), some (va_rf x1), some (.int x2)]) rfl ?_
  intro X hX hR hTb hd1 hd2 hl hg hnm
  subst hl
  subst hg
  have hd : zDep X d := ⟨hd1, hd2⟩
  refine z_aload_n hX dX25_init_0 rfl (i := 0) rfl ?_
  obtain ⟨a4, r5, hw⟩ := hw
  refine z_invIN hX hd r5 dX25_init_1 (hC 520 _ zm520 _ _ _ _ hw) q2381 q2260 rfl zh48 q2261 q181 zn520 rfl (Nat.le_of_ble_eq_true rfl) (st := []) rfl (zcs8 (Nat.le_of_ble_eq_true rfl)) rfl (zkV (fun s2 hw => ?_)) (zout hX hR hTb)
  refine z_aload_n hX dX25_init_4 rfl (i := 0) rfl ?_
  refine z_aload_n hX dX25_init_5 rfl (i := 1) rfl ?_
  obtain ⟨a8, f9, r10, g11, m12, l13, hw⟩ := hw
  refine z_putF hX zc29 (k := 0) dX25_init_6 (Nat.le_of_ble_eq_true rfl) q2382 rfl hnm rfl (zn_o _ _) (zf_o _ _) r10 g11 m12 l13 (z_nm (fun s6 e7 => ?_))
  have hw := hw s6 e7
  refine z_aload_n hX dX25_init_9 rfl (i := 0) rfl ?_
  refine z_iload_n hX dX25_init_10 rfl (i := 2) rfl ?_
  obtain ⟨b22, hw⟩ := hw
  obtain ⟨a16, f17, r18, g19, m20, l21, hw⟩ := hw
  refine z_putF hX zc29 (k := 1) dX25_init_11 (Nat.le_of_ble_eq_true rfl) q2383 rfl hnm rfl (zn_z b22) (zf_z b22) r18 g19 m20 l21 (z_nm (fun s14 e15 => ?_))
  have hw := hw s14 e15
  exact z_return hX hR dX25_init_14 hw
abbrev cX25_holds : ByteArray := prog_9_method_2_code
def yX25_holds : MethodName := ⟨RX25, "holds", "(LPackingDuel$State;I)Z"⟩
def dkwX25_holds_2 : List UInt8 := [180, 0, 13, 154, 0, 7, 4, 167, 0, 4, 3, 172]
abbrev dktX25_holds_2 : List UInt8 := dkwX25_holds_2 ++ []
def dkwX25_holds_1 : List UInt8 := [43, 28, 182, 0, 27, 42, 180, 0, 13, 160, 0, 8, 42, 180, 0, 13, 172, 132, 3, 1, 167, 255, 214, 42]
abbrev dktX25_holds_1 : List UInt8 := dkwX25_holds_1 ++ dktX25_holds_2
def dkwX25_holds_0 : List UInt8 := [3, 62, 29, 42, 180, 0, 7, 182, 0, 17, 162, 0, 37, 42, 180, 0, 7, 29, 182, 0, 23, 192, 0, 2]
abbrev dktX25_holds_0 : List UInt8 := dkwX25_holds_0 ++ dktX25_holds_1
theorem dksX25_holds_0 : cX25_holds.data.toList.drop 0 = dktX25_holds_0 := by decide +kernel
theorem dksX25_holds_1 : cX25_holds.data.toList.drop 24 = dktX25_holds_1 := dk_seg dksX25_holds_0 24 rfl rfl
theorem dksX25_holds_2 : cX25_holds.data.toList.drop 48 = dktX25_holds_2 := dk_seg dksX25_holds_1 24 rfl rfl
theorem dX25_holds_0 : decode cX25_holds 0 = .ok (.iconst 0, 1) := dk_3 (dk_at dksX25_holds_0 0 rfl rfl)
theorem dX25_holds_1 : decode cX25_holds 1 = .ok (.istore_n 3, 1) := dk_62 (dk_at dksX25_holds_0 1 rfl rfl)
theorem dX25_holds_2 : decode cX25_holds 2 = .ok (.iload_n 3, 1) := dk_29 (dk_at dksX25_holds_0 2 rfl rfl)
theorem dX25_holds_3 : decode cX25_holds 3 = .ok (.aload_n 0, 1) := dk_42 (dk_at dksX25_holds_0 3 rfl rfl)
theorem dX25_holds_4 : decode cX25_holds 4 = .ok (.getfield 7, 3) := dk_180 0 7 (dk_at dksX25_holds_0 4 rfl rfl)
theorem dX25_holds_7 : decode cX25_holds 7 = .ok (.invokevirtual 17, 3) := dk_182 0 17 (dk_at dksX25_holds_0 7 rfl rfl)
theorem dX25_holds_10 : decode cX25_holds 10 = .ok (.if_icmp .ge 37, 3) := dk_162 0 37 (dk_at dksX25_holds_0 10 rfl rfl)
theorem dX25_holds_13 : decode cX25_holds 13 = .ok (.aload_n 0, 1) := dk_42 (dk_at dksX25_holds_0 13 rfl rfl)
theorem dX25_holds_14 : decode cX25_holds 14 = .ok (.getfield 7, 3) := dk_180 0 7 (dk_at dksX25_holds_0 14 rfl rfl)
theorem dX25_holds_17 : decode cX25_holds 17 = .ok (.iload_n 3, 1) := dk_29 (dk_at dksX25_holds_0 17 rfl rfl)
theorem dX25_holds_18 : decode cX25_holds 18 = .ok (.invokevirtual 23, 3) := dk_182 0 23 (dk_at dksX25_holds_0 18 rfl rfl)
theorem dX25_holds_21 : decode cX25_holds 21 = .ok (.checkcast 2, 3) := dk_192 0 2 (dk_at dksX25_holds_0 21 rfl rfl)
theorem dX25_holds_24 : decode cX25_holds 24 = .ok (.aload_n 1, 1) := dk_43 (dk_at dksX25_holds_1 0 rfl rfl)
theorem dX25_holds_25 : decode cX25_holds 25 = .ok (.iload_n 2, 1) := dk_28 (dk_at dksX25_holds_1 1 rfl rfl)
theorem dX25_holds_26 : decode cX25_holds 26 = .ok (.invokevirtual 27, 3) := dk_182 0 27 (dk_at dksX25_holds_1 2 rfl rfl)
theorem dX25_holds_29 : decode cX25_holds 29 = .ok (.aload_n 0, 1) := dk_42 (dk_at dksX25_holds_1 5 rfl rfl)
theorem dX25_holds_30 : decode cX25_holds 30 = .ok (.getfield 13, 3) := dk_180 0 13 (dk_at dksX25_holds_1 6 rfl rfl)
theorem dX25_holds_33 : decode cX25_holds 33 = .ok (.if_icmp .ne 8, 3) := dk_160 0 8 (dk_at dksX25_holds_1 9 rfl rfl)
theorem dX25_holds_36 : decode cX25_holds 36 = .ok (.aload_n 0, 1) := dk_42 (dk_at dksX25_holds_1 12 rfl rfl)
theorem dX25_holds_37 : decode cX25_holds 37 = .ok (.getfield 13, 3) := dk_180 0 13 (dk_at dksX25_holds_1 13 rfl rfl)
theorem dX25_holds_40 : decode cX25_holds 40 = .ok (.ireturn, 1) := dk_172 (dk_at dksX25_holds_1 16 rfl rfl)
theorem dX25_holds_41 : decode cX25_holds 41 = .ok (.iinc 3 1, 3) := dk_132 3 1 (dk_at dksX25_holds_1 17 rfl rfl)
theorem dX25_holds_44 : decode cX25_holds 44 = .ok (.goto (-42), 3) := dk_167 255 214 (dk_at dksX25_holds_1 20 rfl rfl)
theorem dX25_holds_47 : decode cX25_holds 47 = .ok (.aload_n 0, 1) := dk_42 (dk_at dksX25_holds_1 23 rfl rfl)
theorem dX25_holds_48 : decode cX25_holds 48 = .ok (.getfield 13, 3) := dk_180 0 13 (dk_at dksX25_holds_2 0 rfl rfl)
theorem dX25_holds_51 : decode cX25_holds 51 = .ok (.ifCond .ne 7, 3) := dk_154 0 7 (dk_at dksX25_holds_2 3 rfl rfl)
theorem dX25_holds_54 : decode cX25_holds 54 = .ok (.iconst 1, 1) := dk_4 (dk_at dksX25_holds_2 6 rfl rfl)
theorem dX25_holds_55 : decode cX25_holds 55 = .ok (.goto 4, 3) := dk_167 0 4 (dk_at dksX25_holds_2 7 rfl rfl)
theorem dX25_holds_58 : decode cX25_holds 58 = .ok (.iconst 0, 1) := dk_3 (dk_at dksX25_holds_2 10 rfl rfl)
theorem dX25_holds_59 : decode cX25_holds 59 = .ok (.ireturn, 1) := dk_172 (dk_at dksX25_holds_2 11 rfl rfl)
/-- PackingDuel$Joined.holds(LPackingDuel$State;I)Z -/
def zb527 (G : zPg) (C : zO) (args : List Value) (Q : zQ) (Y : zY) (σ : zS) : Prop := ∃ (a0 : Nat) (x1 : Option Nat) (x2 : Int32), args = [.ref a0, va_rf x1, .int x2] ∧ (∃ n, zIt (fun _ _ => False) (fun rec3 (p1 : Int32) (s2 : zS) => zgR s2 (some a0) 29 0 (fun v4 => zrc s2 v4 2 (fun a13 => zcl C 128 [.ref a13] Y s2 (zqI (fun v10 s11 => ((v10 ≤ p1) → zgI s11 (some a0) 29 1 (fun v18 => zJ (fun (p24 : Int32) (s25 : zS) => zbool p24 ∧ Q (some (.int p24)) s25) (fun (j26 : Int32 → zS → Prop) => ((¬ v18 = 0) → j26 (0 : Int32) s11) ∧ ((v18 = 0) → j26 (1 : Int32) s11)))) ∧ ((¬ v10 ≤ p1) → zgR s11 (some a0) 29 0 (fun v28 => zrc s11 v28 2 (fun a37 => zcl C 129 [.ref a37, .int p1] Y s11 (zqR (fun v34 s35 => (zcst s35 v34 [27, 28, 29] ∧ zJ (fun (v41 : Int32) (s42 : zS) => zgI s42 (some a0) 29 1 (fun v51 => ((¬ v41 = v51) → (∀ v58 : Int32, v58 = p1 + (1 : Int32) → rec3 v58 s42)) ∧ ((v41 = v51) → zgI s42 (some a0) 29 1 (fun v60 => zbool v60 ∧ Q (some (.int v60)) s42)))) (fun (j44 : Int32 → zS → Prop) => zrcM s35 v34 [27, 28, 29] (fun a45 c46 => (c46 = 27 → zcl C 522 [.ref a45, va_rf x1, .int x2] Y s35 (zqI j44)) ∧ (c46 = 28 → zcl C 524 [.ref a45, va_rf x1, .int x2] Y s35 (zqI j44)) ∧ (c46 = 29 → zcl C 527 [.ref a45, va_rf x1, .int x2] Y s35 (zqI j44))))))))))))))) n (0 : Int32) σ)
set_option maxHeartbeats 4000000 in
theorem wk527 {l : Launch} {g : zG} {d : Nat} {C : zO} (hG : zGk g) (hC : zSound l g d C) {args : List Value} {Q : zQ} {Y : zY} {σ : zS} (hw : zb527 (zpg g) C args Q Y σ) : zMet l g (d + 1) (⟨"PackingDuel$Joined", "holds", "(LPackingDuel$State;I)Z"⟩, Cond.code ⟨"PackingDuel$Joined", "holds", "(LPackingDuel$State;I)Z"⟩ prog_9_method_2_code 4 (Option.some FieldType.boolean)) args σ Q Y := by
  obtain ⟨a0, x1, x2, rfl, hw⟩ := hw
  refine zof hG (by decide +kernel) [false, false, false] ⟨rfl, (zc_rf _), rfl, trivial⟩ (Nat.le_of_ble_eq_true rfl) (ls := [some (va_rf (some a0)), some (va_rf x1), some (.int x2), none]) rfl ?_
  intro X hX hR hTb hd1 hd2 hl hg hnm
  subst hl
  subst hg
  have hd : zDep X d := ⟨hd1, hd2⟩
  refine z_iconst hX (v := (0 : Int32)) dX25_holds_0 (by decide) ?_
  refine z_istore_n hX dX25_holds_1 rfl (i := 3) (Nat.le_of_ble_eq_true rfl) rfl (ls2 := [some (va_rf (some a0)), some (va_rf x1), some (.int x2), some (.int (0 : Int32))]) rfl ?_
  obtain ⟨n66, hw⟩ := hw
  refine zIt_w (P := fun (j : Int32 → zS → Prop) => ∀ (p1 : Int32) (s2 : zS), j p1 s2 → zW X s2 2 [some (va_rf (some a0)), some (va_rf x1), some (.int x2), some (.int p1)] []) (fun _ _ h => h.elim) (fun rec3 hrec3 p1 s2 hw => ?_) n66 _ _ hw
  refine z_iload_n hX dX25_holds_2 rfl (i := 3) rfl ?_
  refine z_aload_n hX dX25_holds_3 rfl (i := 0) rfl ?_
  obtain ⟨a5, f6, v4, r7, m8, e9, hw⟩ := hw
  refine z_get hX zc29 (k := 0) dX25_holds_4 (Nat.le_of_ble_eq_true rfl) (zlk hX q2382) r7 m8 e9 ?_
  obtain ⟨a13, f14, r15, m16, hw⟩ := hw
  refine z_invV hX hd r15 (ci := 2) rfl rfl m16 dX25_holds_7 (hC 128 _ zm128 _ _ _ _ hw) q2441 q362 q363 zh5 q364 q134 zn128 rfl (Nat.le_of_ble_eq_true rfl) (st := [.int p1]) rfl (zcs8 (Nat.le_of_ble_eq_true rfl)) rfl (zkI (fun v10 s11 hw => ?_)) (zout hX hR hTb)
  refine z_icmp_ge hX dX25_holds_10 (tgt := 47) rfl (fun c17 => ?_) (fun c17 => ?_)
  · have hw := hw.1 c17
    refine z_aload_n hX dX25_holds_47 rfl (i := 0) rfl ?_
    obtain ⟨a19, f20, v18, r21, m22, e23, hw⟩ := hw
    refine z_get hX zc29 (k := 1) dX25_holds_48 (Nat.le_of_ble_eq_true rfl) (zlk hX q2383) r21 m22 e23 ?_
    refine zJ_w (P := fun (j : Int32 → zS → Prop) => ∀ (p24 : Int32) (s25 : zS), j p24 s25 → zW X s25 59 [none, none, none, none] [.int p24]) hw (fun p24 s25 hw => ?_) (fun j26 hj26 hw => ?_)
    · exact z_ireturn hX hR dX25_holds_59 (zn_z hw.1) hw.2
    · refine z_if_ne hX dX25_holds_51 (tgt := 58) rfl (fun c27 => ?_) (fun c27 => ?_)
      · have hw := hw.1 c27
        refine z_iconst hX (v := (0 : Int32)) dX25_holds_58 (by decide) ?_
        refine z_sub (ls' := [none, none, none, none]) (zsN (zsN (zsN (zsN (zs0))))) ?_
        exact hj26 _ _ hw
      · have hw := hw.2 c27
        refine z_iconst hX (v := (1 : Int32)) dX25_holds_54 (by decide) ?_
        refine z_goto hX dX25_holds_55 (tgt := 59) rfl ?_
        refine z_sub (ls' := [none, none, none, none]) (zsN (zsN (zsN (zsN (zs0))))) ?_
        exact hj26 _ _ hw
  · have hw := hw.2 c17
    refine z_aload_n hX dX25_holds_13 rfl (i := 0) rfl ?_
    obtain ⟨a29, f30, v28, r31, m32, e33, hw⟩ := hw
    refine z_get hX zc29 (k := 0) dX25_holds_14 (Nat.le_of_ble_eq_true rfl) (zlk hX q2382) r31 m32 e33 ?_
    refine z_iload_n hX dX25_holds_17 rfl (i := 3) rfl ?_
    obtain ⟨a37, f38, r39, m40, hw⟩ := hw
    refine z_invV hX hd r39 (ci := 2) rfl rfl m40 dX25_holds_18 (hC 129 _ zm129 _ _ _ _ hw) q2442 q372 q373 zh5 q374 q134 zn129 rfl (Nat.le_of_ble_eq_true rfl) (st := []) rfl (zcs8 (Nat.le_of_ble_eq_true rfl)) rfl (zkR (fun v34 s35 hw => ?_)) (zout hX hR hTb)
    refine z_cast hX dX25_holds_21 q2443 (zfa1 ⟨_, rfl, Or.inr q3183⟩ (zfa1 ⟨_, rfl, Or.inr q3181⟩ (zfa1 ⟨_, rfl, Or.inr q3182⟩ (zfa0)))) hw.1 ?_
    have hw := hw.2
    refine z_aload_n hX dX25_holds_24 rfl (i := 1) rfl ?_
    refine z_iload_n hX dX25_holds_25 rfl (i := 2) rfl ?_
    refine zJ_v (P := fun (j : Int32 → zS → Prop) => ∀ (v41 : Int32) (s42 : zS), j v41 s42 → zW X s42 29 [some (va_rf (some a0)), some (va_rf x1), some (.int x2), some (.int p1)] [.int v41]) hw (fun j44 hj44 hw => ?_) (fun v41 s42 hw => ?_)
    · obtain ⟨a45, c46, f47, r48, h49, m50, hw⟩ := hw
      simp only [List.mem_cons, List.not_mem_nil, or_false] at h49
      rcases h49 with rfl | rfl | rfl
      · have hw := hw.1 rfl
        refine z_invVU hX hd r48 (ci := 27) rfl rfl m50 dX25_holds_26 (hC 522 _ zm522 _ _ _ _ hw) q2444 q2393 (z_declA hX q2392) q2445 q2448 zh48 q2446 q182 (zn522) rfl (Nat.le_of_ble_eq_true rfl) (st := []) rfl (zcs8 (Nat.le_of_ble_eq_true rfl)) rfl (zkI (fun v41 s42 hw => ?_)) (zout hX hR hTb)
        exact hj44 _ _ hw
      · have hw := hw.2.1 rfl
        refine z_invVU hX hd r48 (ci := 28) rfl rfl m50 dX25_holds_26 (hC 524 _ zm524 _ _ _ _ hw) q2444 q2393 (z_declA hX q2392) q2395 q2394 zh48 q2396 q183 (zn524) rfl (Nat.le_of_ble_eq_true rfl) (st := []) rfl (zcs8 (Nat.le_of_ble_eq_true rfl)) rfl (zkI (fun v41 s42 hw => ?_)) (zout hX hR hTb)
        exact hj44 _ _ hw
      · have hw := hw.2.2 rfl
        refine z_invVU hX hd r48 (ci := 29) rfl rfl m50 dX25_holds_26 (hC 527 _ zm527 _ _ _ _ hw) q2444 q2393 (z_declA hX q2392) q2439 q2438 zh48 q2440 q184 (zn527) rfl (Nat.le_of_ble_eq_true rfl) (st := []) rfl (zcs8 (Nat.le_of_ble_eq_true rfl)) rfl (zkI (fun v41 s42 hw => ?_)) (zout hX hR hTb)
        exact hj44 _ _ hw
    refine z_aload_n hX dX25_holds_29 rfl (i := 0) rfl ?_
    obtain ⟨a52, f53, v51, r54, m55, e56, hw⟩ := hw
    refine z_get hX zc29 (k := 1) dX25_holds_30 (Nat.le_of_ble_eq_true rfl) (zlk hX q2383) r54 m55 e56 ?_
    refine z_icmp_ne hX dX25_holds_33 (tgt := 41) rfl (fun c57 => ?_) (fun c57 => ?_)
    · have hw := hw.1 c57
      obtain ⟨v58, e59⟩ : ∃ y : Int32, y = p1 + (1 : Int32) := ⟨_, rfl⟩
      refine z_iinc hX dX25_holds_41 (i := 3) (v := v58) rfl (by rw [e59]; rfl) (Nat.le_of_ble_eq_true rfl) rfl (ls2 := [some (va_rf (some a0)), some (va_rf x1), some (.int x2), some (.int v58)]) rfl ?_
      have hw := hw v58 e59
      refine z_goto hX dX25_holds_44 (tgt := 2) rfl ?_
      exact hrec3 _ _ hw
    · have hw := hw.2 c57
      refine z_aload_n hX dX25_holds_36 rfl (i := 0) rfl ?_
      obtain ⟨a61, f62, v60, r63, m64, e65, hw⟩ := hw
      refine z_get hX zc29 (k := 1) dX25_holds_37 (Nat.le_of_ble_eq_true rfl) (zlk hX q2383) r63 m64 e65 ?_
      exact z_ireturn hX hR dX25_holds_40 (zn_z hw.1) hw.2
