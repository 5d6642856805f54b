set_option maxRecDepth 100000
abbrev cX3_make : ByteArray := prog_28_method_60_code
def yX3_make : MethodName := ⟨RX3, "make", "(I)V"⟩
def dkwX3_make_3 : List UInt8 := [46, 4, 96, 79, 177]
abbrev dktX3_make_3 : List UInt8 := dkwX3_make_3 ++ []
def dkwX3_make_2 : List UInt8 := [79, 42, 180, 0, 9, 16, 8, 4, 42, 180, 0, 9, 16, 8, 46, 100, 79, 42, 180, 0, 9, 16, 10, 92]
abbrev dktX3_make_2 : List UInt8 := dkwX3_make_2 ++ dktX3_make_3
def dkwX3_make_1 : List UInt8 := [16, 6, 42, 180, 0, 9, 16, 8, 46, 96, 92, 46, 4, 27, 120, 128, 79, 42, 180, 0, 9, 16, 9, 3]
abbrev dktX3_make_1 : List UInt8 := dkwX3_make_1 ++ dktX3_make_2
def dkwX3_make_0 : List UInt8 := [27, 2, 160, 0, 17, 42, 180, 0, 9, 16, 9, 92, 46, 4, 96, 79, 167, 0, 32, 42, 180, 0, 9]
abbrev dktX3_make_0 : List UInt8 := dkwX3_make_0 ++ dktX3_make_1
theorem dksX3_make_0 : cX3_make.data.toList.drop 0 = dktX3_make_0 := by decide +kernel
theorem dksX3_make_1 : cX3_make.data.toList.drop 23 = dktX3_make_1 := dk_seg dksX3_make_0 23 rfl rfl
theorem dksX3_make_2 : cX3_make.data.toList.drop 47 = dktX3_make_2 := dk_seg dksX3_make_1 24 rfl rfl
theorem dksX3_make_3 : cX3_make.data.toList.drop 71 = dktX3_make_3 := dk_seg dksX3_make_2 24 rfl rfl
theorem dX3_make_0 : decode cX3_make 0 = .ok (.iload_n 1, 1) := dk_27 (dk_at dksX3_make_0 0 rfl rfl)
theorem dX3_make_1 : decode cX3_make 1 = .ok (.iconst (-1), 1) := dk_2 (dk_at dksX3_make_0 1 rfl rfl)
theorem dX3_make_2 : decode cX3_make 2 = .ok (.if_icmp .ne 17, 3) := dk_160 0 17 (dk_at dksX3_make_0 2 rfl rfl)
theorem dX3_make_5 : decode cX3_make 5 = .ok (.aload_n 0, 1) := dk_42 (dk_at dksX3_make_0 5 rfl rfl)
theorem dX3_make_6 : decode cX3_make 6 = .ok (.getfield 9, 3) := dk_180 0 9 (dk_at dksX3_make_0 6 rfl rfl)
theorem dX3_make_9 : decode cX3_make 9 = .ok (.bipush 9, 2) := dk_16 9 (dk_at dksX3_make_0 9 rfl rfl)
theorem dX3_make_11 : decode cX3_make 11 = .ok (.dup2, 1) := dk_92 (dk_at dksX3_make_0 11 rfl rfl)
theorem dX3_make_12 : decode cX3_make 12 = .ok (.iaload, 1) := dk_46 (dk_at dksX3_make_0 12 rfl rfl)
theorem dX3_make_13 : decode cX3_make 13 = .ok (.iconst 1, 1) := dk_4 (dk_at dksX3_make_0 13 rfl rfl)
theorem dX3_make_14 : decode cX3_make 14 = .ok (.iadd, 1) := dk_96 (dk_at dksX3_make_0 14 rfl rfl)
theorem dX3_make_15 : decode cX3_make 15 = .ok (.iastore, 1) := dk_79 (dk_at dksX3_make_0 15 rfl rfl)
theorem dX3_make_16 : decode cX3_make 16 = .ok (.goto 32, 3) := dk_167 0 32 (dk_at dksX3_make_0 16 rfl rfl)
theorem dX3_make_19 : decode cX3_make 19 = .ok (.aload_n 0, 1) := dk_42 (dk_at dksX3_make_0 19 rfl rfl)
theorem dX3_make_20 : decode cX3_make 20 = .ok (.getfield 9, 3) := dk_180 0 9 (dk_at dksX3_make_0 20 rfl rfl)
theorem dX3_make_23 : decode cX3_make 23 = .ok (.bipush 6, 2) := dk_16 6 (dk_at dksX3_make_1 0 rfl rfl)
theorem dX3_make_25 : decode cX3_make 25 = .ok (.aload_n 0, 1) := dk_42 (dk_at dksX3_make_1 2 rfl rfl)
theorem dX3_make_26 : decode cX3_make 26 = .ok (.getfield 9, 3) := dk_180 0 9 (dk_at dksX3_make_1 3 rfl rfl)
theorem dX3_make_29 : decode cX3_make 29 = .ok (.bipush 8, 2) := dk_16 8 (dk_at dksX3_make_1 6 rfl rfl)
theorem dX3_make_31 : decode cX3_make 31 = .ok (.iaload, 1) := dk_46 (dk_at dksX3_make_1 8 rfl rfl)
theorem dX3_make_32 : decode cX3_make 32 = .ok (.iadd, 1) := dk_96 (dk_at dksX3_make_1 9 rfl rfl)
theorem dX3_make_33 : decode cX3_make 33 = .ok (.dup2, 1) := dk_92 (dk_at dksX3_make_1 10 rfl rfl)
theorem dX3_make_34 : decode cX3_make 34 = .ok (.iaload, 1) := dk_46 (dk_at dksX3_make_1 11 rfl rfl)
theorem dX3_make_35 : decode cX3_make 35 = .ok (.iconst 1, 1) := dk_4 (dk_at dksX3_make_1 12 rfl rfl)
theorem dX3_make_36 : decode cX3_make 36 = .ok (.iload_n 1, 1) := dk_27 (dk_at dksX3_make_1 13 rfl rfl)
theorem dX3_make_37 : decode cX3_make 37 = .ok (.ishl, 1) := dk_120 (dk_at dksX3_make_1 14 rfl rfl)
theorem dX3_make_38 : decode cX3_make 38 = .ok (.ior, 1) := dk_128 (dk_at dksX3_make_1 15 rfl rfl)
theorem dX3_make_39 : decode cX3_make 39 = .ok (.iastore, 1) := dk_79 (dk_at dksX3_make_1 16 rfl rfl)
theorem dX3_make_40 : decode cX3_make 40 = .ok (.aload_n 0, 1) := dk_42 (dk_at dksX3_make_1 17 rfl rfl)
theorem dX3_make_41 : decode cX3_make 41 = .ok (.getfield 9, 3) := dk_180 0 9 (dk_at dksX3_make_1 18 rfl rfl)
theorem dX3_make_44 : decode cX3_make 44 = .ok (.bipush 9, 2) := dk_16 9 (dk_at dksX3_make_1 21 rfl rfl)
theorem dX3_make_46 : decode cX3_make 46 = .ok (.iconst 0, 1) := dk_3 (dk_at dksX3_make_1 23 rfl rfl)
theorem dX3_make_47 : decode cX3_make 47 = .ok (.iastore, 1) := dk_79 (dk_at dksX3_make_2 0 rfl rfl)
theorem dX3_make_48 : decode cX3_make 48 = .ok (.aload_n 0, 1) := dk_42 (dk_at dksX3_make_2 1 rfl rfl)
theorem dX3_make_49 : decode cX3_make 49 = .ok (.getfield 9, 3) := dk_180 0 9 (dk_at dksX3_make_2 2 rfl rfl)
theorem dX3_make_52 : decode cX3_make 52 = .ok (.bipush 8, 2) := dk_16 8 (dk_at dksX3_make_2 5 rfl rfl)
theorem dX3_make_54 : decode cX3_make 54 = .ok (.iconst 1, 1) := dk_4 (dk_at dksX3_make_2 7 rfl rfl)
theorem dX3_make_55 : decode cX3_make 55 = .ok (.aload_n 0, 1) := dk_42 (dk_at dksX3_make_2 8 rfl rfl)
theorem dX3_make_56 : decode cX3_make 56 = .ok (.getfield 9, 3) := dk_180 0 9 (dk_at dksX3_make_2 9 rfl rfl)
theorem dX3_make_59 : decode cX3_make 59 = .ok (.bipush 8, 2) := dk_16 8 (dk_at dksX3_make_2 12 rfl rfl)
theorem dX3_make_61 : decode cX3_make 61 = .ok (.iaload, 1) := dk_46 (dk_at dksX3_make_2 14 rfl rfl)
theorem dX3_make_62 : decode cX3_make 62 = .ok (.isub, 1) := dk_100 (dk_at dksX3_make_2 15 rfl rfl)
theorem dX3_make_63 : decode cX3_make 63 = .ok (.iastore, 1) := dk_79 (dk_at dksX3_make_2 16 rfl rfl)
theorem dX3_make_64 : decode cX3_make 64 = .ok (.aload_n 0, 1) := dk_42 (dk_at dksX3_make_2 17 rfl rfl)
theorem dX3_make_65 : decode cX3_make 65 = .ok (.getfield 9, 3) := dk_180 0 9 (dk_at dksX3_make_2 18 rfl rfl)
theorem dX3_make_68 : decode cX3_make 68 = .ok (.bipush 10, 2) := dk_16 10 (dk_at dksX3_make_2 21 rfl rfl)
theorem dX3_make_70 : decode cX3_make 70 = .ok (.dup2, 1) := dk_92 (dk_at dksX3_make_2 23 rfl rfl)
theorem dX3_make_71 : decode cX3_make 71 = .ok (.iaload, 1) := dk_46 (dk_at dksX3_make_3 0 rfl rfl)
theorem dX3_make_72 : decode cX3_make 72 = .ok (.iconst 1, 1) := dk_4 (dk_at dksX3_make_3 1 rfl rfl)
theorem dX3_make_73 : decode cX3_make 73 = .ok (.iadd, 1) := dk_96 (dk_at dksX3_make_3 2 rfl rfl)
theorem dX3_make_74 : decode cX3_make 74 = .ok (.iastore, 1) := dk_79 (dk_at dksX3_make_3 3 rfl rfl)
theorem dX3_make_75 : decode cX3_make 75 = .ok (.return_, 1) := dk_177 (dk_at dksX3_make_3 4 rfl rfl)
/-- PackingDuelModel.make(I)V -/
def zb250 (G : zPg) (C : zO) (args : List Value) (Q : zQ) (Y : zY) (σ : zS) : Prop := ∃ (a0 : Nat) (x1 : Int32), args = [.ref a0, .int x1] ∧ (zJ (fun  (s1 : zS) => zgR s1 (some a0) 4 0 (fun v3 => zgR s1 (some a0) 4 0 (fun v9 => zaI s1 0 v9 (8 : Int32) (fun v21 => zsI s1 G.1 0 v3 (8 : Int32) ((1 : Int32) - v21) (fun s30 => zgR s30 (some a0) 4 0 (fun v32 => zaI s30 0 v32 (10 : Int32) (fun v44 => zsI s30 G.1 0 v32 (10 : Int32) (v44 + (1 : Int32)) (fun s53 => Q none s53)))))))) (fun (j2 : zS → Prop) => ((¬ x1 = (-1 : Int32)) → zgR σ (some a0) 4 0 (fun v56 => zgR σ (some a0) 4 0 (fun v62 => zaI σ 0 v62 (8 : Int32) (fun v74 => zaI σ 0 v56 ((6 : Int32) + v74) (fun v82 => zsI σ G.1 0 v56 ((6 : Int32) + v74) (v82 ||| ((1 : Int32) <<< (x1 &&& 31))) (fun s91 => zgR s91 (some a0) 4 0 (fun v93 => zsI s91 G.1 0 v93 (9 : Int32) (0 : Int32) (fun s106 => j2 s106)))))))) ∧ ((x1 = (-1 : Int32)) → zgR σ (some a0) 4 0 (fun v108 => zaI σ 0 v108 (9 : Int32) (fun v120 => zsI σ G.1 0 v108 (9 : Int32) (v120 + (1 : Int32)) (fun s129 => j2 s129))))))
set_option maxHeartbeats 4000000 in
theorem wk250 {l : Launch} {g : zG} {d : Nat} {C : zO} (hG : zGk g) (hC : zSound l g d C) {args : List Value} {Q : zQ} {Y : zY} {σ : zS} (hw : zb250 (zpg g) C args Q Y σ) : zMet l g (d + 1) (⟨"PackingDuelModel", "make", "(I)V"⟩, Cond.code ⟨"PackingDuelModel", "make", "(I)V"⟩ prog_28_method_60_code 2 (Option.none : Option FieldType)) args σ Q Y := by
  obtain ⟨a0, x1, rfl, hw⟩ := hw
  refine zof hG (by decide +kernel) [false, false] ⟨rfl, rfl, trivial⟩ (Nat.le_of_ble_eq_true rfl) (ls := [some (va_rf (some a0)), some (.int x1)]) rfl ?_
  intro X hX hR hTb hd1 hd2 hl hg hnm
  subst hl
  subst hg
  have hd : zDep X d := ⟨hd1, hd2⟩
  refine z_iload_n hX dX3_make_0 rfl (i := 1) rfl ?_
  refine z_iconst hX (v := (-1 : Int32)) dX3_make_1 (by decide) ?_
  refine zJ_w (P := fun (j : zS → Prop) => ∀  (s1 : zS), j  s1 → zW X s1 48 [some (va_rf (some a0)), none] []) hw (fun  s1 hw => ?_) (fun j2 hj2 hw => ?_)
  · refine z_aload_n hX dX3_make_48 rfl (i := 0) rfl ?_
    obtain ⟨a4, f5, v3, r6, m7, e8, hw⟩ := hw
    refine z_get hX zc4 (k := 0) dX3_make_49 (Nat.le_of_ble_eq_true rfl) (zlk hX q2469) r6 m7 e8 ?_
    refine z_bipush hX (v := (8 : Int32)) dX3_make_52 (by decide) ?_
    refine z_iconst hX (v := (1 : Int32)) dX3_make_54 (by decide) ?_
    refine z_aload_n hX dX3_make_55 rfl (i := 0) rfl ?_
    obtain ⟨a10, f11, v9, r12, m13, e14, hw⟩ := hw
    refine z_get hX zc4 (k := 0) dX3_make_56 (Nat.le_of_ble_eq_true rfl) (zlk hX q2469) r12 m13 e14 ?_
    refine z_bipush hX (v := (8 : Int32)) dX3_make_59 (by decide) ?_
    obtain ⟨a15, n16, f17, r18, m19, i20, hw⟩ := hw
    refine z_iald hX dX3_make_61 r18 m19 i20 ?_
    revert hw
    generalize f17 (Int32.toNatClampNeg (8 : Int32)) = v21
    intro hw
    refine z_isub hX dX3_make_62 ?_
    obtain ⟨a23, n24, f25, r26, g27, m28, i29, hw⟩ := hw
    refine z_iast hX dX3_make_63 r26 g27 m28 i29 (z_nm (fun s30 e31 => ?_))
    have hw := hw s30 e31
    refine z_aload_n hX dX3_make_64 rfl (i := 0) rfl ?_
    obtain ⟨a33, f34, v32, r35, m36, e37, hw⟩ := hw
    refine z_get hX zc4 (k := 0) dX3_make_65 (Nat.le_of_ble_eq_true rfl) (zlk hX q2469) r35 m36 e37 ?_
    refine z_bipush hX (v := (10 : Int32)) dX3_make_68 (by decide) ?_
    refine z_dup2 hX dX3_make_70 rfl (zc_rf _) ?_
    obtain ⟨a38, n39, f40, r41, m42, i43, hw⟩ := hw
    refine z_iald hX dX3_make_71 r41 m42 i43 ?_
    revert hw
    generalize f40 (Int32.toNatClampNeg (10 : Int32)) = v44
    intro hw
    refine z_iconst hX (v := (1 : Int32)) dX3_make_72 (by decide) ?_
    refine z_iadd hX dX3_make_73 ?_
    obtain ⟨a46, n47, f48, r49, g50, m51, i52, hw⟩ := hw
    refine z_iast hX dX3_make_74 r49 g50 m51 i52 (z_nm (fun s53 e54 => ?_))
    have hw := hw s53 e54
    exact z_return hX hR dX3_make_75 hw
  · refine z_icmp_ne hX dX3_make_2 (tgt := 19) rfl (fun c55 => ?_) (fun c55 => ?_)
    · have hw := hw.1 c55
      refine z_aload_n hX dX3_make_19 rfl (i := 0) rfl ?_
      obtain ⟨a57, f58, v56, r59, m60, e61, hw⟩ := hw
      refine z_get hX zc4 (k := 0) dX3_make_20 (Nat.le_of_ble_eq_true rfl) (zlk hX q2469) r59 m60 e61 ?_
      refine z_bipush hX (v := (6 : Int32)) dX3_make_23 (by decide) ?_
      refine z_aload_n hX dX3_make_25 rfl (i := 0) rfl ?_
      obtain ⟨a63, f64, v62, r65, m66, e67, hw⟩ := hw
      refine z_get hX zc4 (k := 0) dX3_make_26 (Nat.le_of_ble_eq_true rfl) (zlk hX q2469) r65 m66 e67 ?_
      refine z_bipush hX (v := (8 : Int32)) dX3_make_29 (by decide) ?_
      obtain ⟨a68, n69, f70, r71, m72, i73, hw⟩ := hw
      refine z_iald hX dX3_make_31 r71 m72 i73 ?_
      revert hw
      generalize f70 (Int32.toNatClampNeg (8 : Int32)) = v74
      intro hw
      refine z_iadd hX dX3_make_32 ?_
      refine z_dup2 hX dX3_make_33 rfl (zc_rf _) ?_
      obtain ⟨a76, n77, f78, r79, m80, i81, hw⟩ := hw
      refine z_iald hX dX3_make_34 r79 m80 i81 ?_
      revert hw
      generalize f78 (Int32.toNatClampNeg ((6 : Int32) + v74)) = v82
      intro hw
      refine z_iconst hX (v := (1 : Int32)) dX3_make_35 (by decide) ?_
      refine z_iload_n hX dX3_make_36 rfl (i := 1) rfl ?_
      refine z_ishl hX dX3_make_37 ?_
      refine z_ior hX dX3_make_38 ?_
      obtain ⟨a84, n85, f86, r87, g88, m89, i90, hw⟩ := hw
      refine z_iast hX dX3_make_39 r87 g88 m89 i90 (z_nm (fun s91 e92 => ?_))
      have hw := hw s91 e92
      refine z_aload_n hX dX3_make_40 rfl (i := 0) rfl ?_
      obtain ⟨a94, f95, v93, r96, m97, e98, hw⟩ := hw
      refine z_get hX zc4 (k := 0) dX3_make_41 (Nat.le_of_ble_eq_true rfl) (zlk hX q2469) r96 m97 e98 ?_
      refine z_bipush hX (v := (9 : Int32)) dX3_make_44 (by decide) ?_
      refine z_iconst hX (v := (0 : Int32)) dX3_make_46 (by decide) ?_
      obtain ⟨a99, n100, f101, r102, g103, m104, i105, hw⟩ := hw
      refine z_iast hX dX3_make_47 r102 g103 m104 i105 (z_nm (fun s106 e107 => ?_))
      have hw := hw s106 e107
      refine z_sub (ls' := [some (va_rf (some a0)), none]) (zsS (zsN (zs0))) ?_
      exact hj2  _ hw
    · have hw := hw.2 c55
      refine z_aload_n hX dX3_make_5 rfl (i := 0) rfl ?_
      obtain ⟨a109, f110, v108, r111, m112, e113, hw⟩ := hw
      refine z_get hX zc4 (k := 0) dX3_make_6 (Nat.le_of_ble_eq_true rfl) (zlk hX q2469) r111 m112 e113 ?_
      refine z_bipush hX (v := (9 : Int32)) dX3_make_9 (by decide) ?_
      refine z_dup2 hX dX3_make_11 rfl (zc_rf _) ?_
      obtain ⟨a114, n115, f116, r117, m118, i119, hw⟩ := hw
      refine z_iald hX dX3_make_12 r117 m118 i119 ?_
      revert hw
      generalize f116 (Int32.toNatClampNeg (9 : Int32)) = v120
      intro hw
      refine z_iconst hX (v := (1 : Int32)) dX3_make_13 (by decide) ?_
      refine z_iadd hX dX3_make_14 ?_
      obtain ⟨a122, n123, f124, r125, g126, m127, i128, hw⟩ := hw
      refine z_iast hX dX3_make_15 r125 g126 m127 i128 (z_nm (fun s129 e130 => ?_))
      have hw := hw s129 e130
      refine z_goto hX dX3_make_16 (tgt := 48) rfl ?_
      refine z_sub (ls' := [some (va_rf (some a0)), none]) (zsS (zsN (zs0))) ?_
      exact hj2  _ hw
abbrev cX3_pass : ByteArray := prog_28_method_96_code
def yX3_pass : MethodName := ⟨RX3, "pass", "()I"⟩
def dkwX3_pass_1 : List UInt8 := [42, 182, 1, 70, 172]
abbrev dktX3_pass_1 : List UInt8 := dkwX3_pass_1 ++ []
def dkwX3_pass_0 : List UInt8 := [42, 3, 181, 0, 103, 42, 182, 1, 26, 153, 0, 6, 16, 254, 172, 42, 182, 1, 82, 42, 2, 182, 1, 102]
abbrev dktX3_pass_0 : List UInt8 := dkwX3_pass_0 ++ dktX3_pass_1
theorem dksX3_pass_0 : cX3_pass.data.toList.drop 0 = dktX3_pass_0 := by decide +kernel
theorem dksX3_pass_1 : cX3_pass.data.toList.drop 24 = dktX3_pass_1 := dk_seg dksX3_pass_0 24 rfl rfl
theorem dX3_pass_0 : decode cX3_pass 0 = .ok (.aload_n 0, 1) := dk_42 (dk_at dksX3_pass_0 0 rfl rfl)
theorem dX3_pass_1 : decode cX3_pass 1 = .ok (.iconst 0, 1) := dk_3 (dk_at dksX3_pass_0 1 rfl rfl)
theorem dX3_pass_2 : decode cX3_pass 2 = .ok (.putfield 103, 3) := dk_181 0 103 (dk_at dksX3_pass_0 2 rfl rfl)
theorem dX3_pass_5 : decode cX3_pass 5 = .ok (.aload_n 0, 1) := dk_42 (dk_at dksX3_pass_0 5 rfl rfl)
theorem dX3_pass_6 : decode cX3_pass 6 = .ok (.invokevirtual 282, 3) := dk_182 1 26 (dk_at dksX3_pass_0 6 rfl rfl)
theorem dX3_pass_9 : decode cX3_pass 9 = .ok (.ifCond .eq 6, 3) := dk_153 0 6 (dk_at dksX3_pass_0 9 rfl rfl)
theorem dX3_pass_12 : decode cX3_pass 12 = .ok (.bipush (-2), 2) := dk_16 254 (dk_at dksX3_pass_0 12 rfl rfl)
theorem dX3_pass_14 : decode cX3_pass 14 = .ok (.ireturn, 1) := dk_172 (dk_at dksX3_pass_0 14 rfl rfl)
theorem dX3_pass_15 : decode cX3_pass 15 = .ok (.aload_n 0, 1) := dk_42 (dk_at dksX3_pass_0 15 rfl rfl)
theorem dX3_pass_16 : decode cX3_pass 16 = .ok (.invokevirtual 338, 3) := dk_182 1 82 (dk_at dksX3_pass_0 16 rfl rfl)
theorem dX3_pass_19 : decode cX3_pass 19 = .ok (.aload_n 0, 1) := dk_42 (dk_at dksX3_pass_0 19 rfl rfl)
theorem dX3_pass_20 : decode cX3_pass 20 = .ok (.iconst (-1), 1) := dk_2 (dk_at dksX3_pass_0 20 rfl rfl)
theorem dX3_pass_21 : decode cX3_pass 21 = .ok (.invokevirtual 358, 3) := dk_182 1 102 (dk_at dksX3_pass_0 21 rfl rfl)
theorem dX3_pass_24 : decode cX3_pass 24 = .ok (.aload_n 0, 1) := dk_42 (dk_at dksX3_pass_1 0 rfl rfl)
theorem dX3_pass_25 : decode cX3_pass 25 = .ok (.invokevirtual 326, 3) := dk_182 1 70 (dk_at dksX3_pass_1 1 rfl rfl)
theorem dX3_pass_28 : decode cX3_pass 28 = .ok (.ireturn, 1) := dk_172 (dk_at dksX3_pass_1 4 rfl rfl)
/-- PackingDuelModel.pass()I -/
def zb251 (G : zPg) (C : zO) (args : List Value) (Q : zQ) (Y : zY) (σ : zS) : Prop := ∃ (a0 : Nat), args = [.ref a0] ∧ (zput σ G.1 (some a0) 4 5 (.int (0 : Int32)) (fun s1 => zrc s1 (some a0) 4 (fun a12 => zcl C 219 [.ref a12] Y s1 (zqI (fun v9 s10 => ((v9 = 0) → zrc s10 (some a0) 4 (fun a20 => zcl C 237 [.ref a20] Y s10 (zqV (fun s18 => zrc s18 (some a0) 4 (fun a27 => zcl C 250 [.ref a27, .int (-1 : Int32)] Y s18 (zqV (fun s25 => zrc s25 (some a0) 4 (fun a34 => zcl C 218 [.ref a34] Y s25 (zqI (fun v31 s32 => Q (some (.int v31)) s32)))))))))) ∧ ((¬ v9 = 0) → Q (some (.int (-2 : Int32))) s10))))))
set_option maxHeartbeats 4000000 in
theorem wk251 {l : Launch} {g : zG} {d : Nat} {C : zO} (hG : zGk g) (hC : zSound l g d C) {args : List Value} {Q : zQ} {Y : zY} {σ : zS} (hw : zb251 (zpg g) C args Q Y σ) : zMet l g (d + 1) (⟨"PackingDuelModel", "pass", "()I"⟩, Cond.code ⟨"PackingDuelModel", "pass", "()I"⟩ prog_28_method_96_code 1 (Option.some FieldType.int)) args σ Q Y := by
  obtain ⟨a0, rfl, hw⟩ := hw
  refine zof hG (by decide +kernel) [false] ⟨rfl, trivial⟩ (Nat.le_of_ble_eq_true rfl) (ls := [some (va_rf (some a0))]) rfl ?_
  intro X hX hR hTb hd1 hd2 hl hg hnm
  subst hl
  subst hg
  have hd : zDep X d := ⟨hd1, hd2⟩
  refine z_aload_n hX dX3_pass_0 rfl (i := 0) rfl ?_
  refine z_iconst hX (v := (0 : Int32)) dX3_pass_1 (by decide) ?_
  obtain ⟨a3, f4, r5, g6, m7, l8, hw⟩ := hw
  refine z_put hX zc4 (k := 5) dX3_pass_2 (Nat.le_of_ble_eq_true rfl) (zlk hX q2474) rfl rfl rfl r5 g6 m7 l8 (z_nm (fun s1 e2 => ?_))
  have hw := hw s1 e2
  refine z_aload_n hX dX3_pass_5 rfl (i := 0) rfl ?_
  obtain ⟨a12, f13, r14, m15, hw⟩ := hw
  refine z_invV hX hd r14 (ci := 4) rfl rfl m15 dX3_pass_6 (hC 219 _ zm219 _ _ _ _ hw) q2841 q2843 qs83 zh7 q2844 q136 zn219 rfl (Nat.le_of_ble_eq_true rfl) (st := []) rfl (zcs8 (Nat.le_of_ble_eq_true rfl)) rfl (zkI (fun v9 s10 hw => ?_)) (zout hX hR hTb)
  refine z_if_eq hX dX3_pass_9 (tgt := 15) rfl (fun c16 => ?_) (fun c16 => ?_)
  · have hw := hw.1 c16
    refine z_aload_n hX dX3_pass_15 rfl (i := 0) rfl ?_
    obtain ⟨a20, f21, r22, m23, hw⟩ := hw
    refine z_invV hX hd r22 (ci := 4) rfl rfl m23 dX3_pass_16 (hC 237 _ zm237 _ _ _ _ hw) q2911 q2913 qs93 zh7 q2914 q136 zn237 rfl (Nat.le_of_ble_eq_true rfl) (st := []) rfl (zcs8 (Nat.le_of_ble_eq_true rfl)) rfl (zkV (fun s18 hw => ?_)) (zout hX hR hTb)
    refine z_aload_n hX dX3_pass_19 rfl (i := 0) rfl ?_
    refine z_iconst hX (v := (-1 : Int32)) dX3_pass_20 (by decide) ?_
    obtain ⟨a27, f28, r29, m30, hw⟩ := hw
    refine z_invV hX hd r29 (ci := 4) rfl rfl m30 dX3_pass_21 (hC 250 _ zm250 _ _ _ _ hw) q2963 q2965 qs98 zh7 q2966 q136 zn250 rfl (Nat.le_of_ble_eq_true rfl) (st := []) rfl (zcs8 (Nat.le_of_ble_eq_true rfl)) rfl (zkV (fun s25 hw => ?_)) (zout hX hR hTb)
    refine z_aload_n hX dX3_pass_24 rfl (i := 0) rfl ?_
    obtain ⟨a34, f35, r36, m37, hw⟩ := hw
    refine z_invV hX hd r36 (ci := 4) rfl rfl m37 dX3_pass_25 (hC 218 _ zm218 _ _ _ _ hw) q2837 q2839 qs82 zh7 q2840 q136 zn218 rfl (Nat.le_of_ble_eq_true rfl) (st := []) rfl (zcs8 (Nat.le_of_ble_eq_true rfl)) rfl (zkI (fun v31 s32 hw => ?_)) (zout hX hR hTb)
    exact z_ireturn hX hR dX3_pass_28 rfl hw
  · have hw := hw.2 c16
    refine z_bipush hX (v := (-2 : Int32)) dX3_pass_12 (by decide) ?_
    exact z_ireturn hX hR dX3_pass_14 rfl hw
abbrev cX3_play : ByteArray := prog_28_method_97_code
def yX3_play : MethodName := ⟨RX3, "play", "(I)I"⟩
def dkwX3_play_2 : List UInt8 := [182, 1, 79, 182, 1, 102, 132, 2, 1, 167, 255, 233, 28, 172]
abbrev dktX3_play_2 : List UInt8 := dkwX3_play_2 ++ []
def dkwX3_play_1 : List UInt8 := [182, 1, 82, 42, 182, 1, 76, 3, 61, 28, 27, 162, 0, 24, 42, 182, 1, 26, 154, 0, 17, 42, 42]
abbrev dktX3_play_1 : List UInt8 := dkwX3_play_1 ++ dktX3_play_2
def dkwX3_play_0 : List UInt8 := [42, 3, 181, 0, 103, 27, 4, 16, 30, 184, 0, 109, 154, 0, 9, 42, 4, 182, 1, 33, 172, 42]
abbrev dktX3_play_0 : List UInt8 := dkwX3_play_0 ++ dktX3_play_1
theorem dksX3_play_0 : cX3_play.data.toList.drop 0 = dktX3_play_0 := by decide +kernel
theorem dksX3_play_1 : cX3_play.data.toList.drop 22 = dktX3_play_1 := dk_seg dksX3_play_0 22 rfl rfl
theorem dksX3_play_2 : cX3_play.data.toList.drop 45 = dktX3_play_2 := dk_seg dksX3_play_1 23 rfl rfl
theorem dX3_play_0 : decode cX3_play 0 = .ok (.aload_n 0, 1) := dk_42 (dk_at dksX3_play_0 0 rfl rfl)
theorem dX3_play_1 : decode cX3_play 1 = .ok (.iconst 0, 1) := dk_3 (dk_at dksX3_play_0 1 rfl rfl)
theorem dX3_play_2 : decode cX3_play 2 = .ok (.putfield 103, 3) := dk_181 0 103 (dk_at dksX3_play_0 2 rfl rfl)
theorem dX3_play_5 : decode cX3_play 5 = .ok (.iload_n 1, 1) := dk_27 (dk_at dksX3_play_0 5 rfl rfl)
theorem dX3_play_6 : decode cX3_play 6 = .ok (.iconst 1, 1) := dk_4 (dk_at dksX3_play_0 6 rfl rfl)
theorem dX3_play_7 : decode cX3_play 7 = .ok (.bipush 30, 2) := dk_16 30 (dk_at dksX3_play_0 7 rfl rfl)
theorem dX3_play_9 : decode cX3_play 9 = .ok (.invokestatic 109, 3) := dk_184 0 109 (dk_at dksX3_play_0 9 rfl rfl)
theorem dX3_play_12 : decode cX3_play 12 = .ok (.ifCond .ne 9, 3) := dk_154 0 9 (dk_at dksX3_play_0 12 rfl rfl)
theorem dX3_play_15 : decode cX3_play 15 = .ok (.aload_n 0, 1) := dk_42 (dk_at dksX3_play_0 15 rfl rfl)
theorem dX3_play_16 : decode cX3_play 16 = .ok (.iconst 1, 1) := dk_4 (dk_at dksX3_play_0 16 rfl rfl)
theorem dX3_play_17 : decode cX3_play 17 = .ok (.invokevirtual 289, 3) := dk_182 1 33 (dk_at dksX3_play_0 17 rfl rfl)
theorem dX3_play_20 : decode cX3_play 20 = .ok (.ireturn, 1) := dk_172 (dk_at dksX3_play_0 20 rfl rfl)
theorem dX3_play_21 : decode cX3_play 21 = .ok (.aload_n 0, 1) := dk_42 (dk_at dksX3_play_0 21 rfl rfl)
theorem dX3_play_22 : decode cX3_play 22 = .ok (.invokevirtual 338, 3) := dk_182 1 82 (dk_at dksX3_play_1 0 rfl rfl)
theorem dX3_play_25 : decode cX3_play 25 = .ok (.aload_n 0, 1) := dk_42 (dk_at dksX3_play_1 3 rfl rfl)
theorem dX3_play_26 : decode cX3_play 26 = .ok (.invokevirtual 332, 3) := dk_182 1 76 (dk_at dksX3_play_1 4 rfl rfl)
theorem dX3_play_29 : decode cX3_play 29 = .ok (.iconst 0, 1) := dk_3 (dk_at dksX3_play_1 7 rfl rfl)
theorem dX3_play_30 : decode cX3_play 30 = .ok (.istore_n 2, 1) := dk_61 (dk_at dksX3_play_1 8 rfl rfl)
theorem dX3_play_31 : decode cX3_play 31 = .ok (.iload_n 2, 1) := dk_28 (dk_at dksX3_play_1 9 rfl rfl)
theorem dX3_play_32 : decode cX3_play 32 = .ok (.iload_n 1, 1) := dk_27 (dk_at dksX3_play_1 10 rfl rfl)
theorem dX3_play_33 : decode cX3_play 33 = .ok (.if_icmp .ge 24, 3) := dk_162 0 24 (dk_at dksX3_play_1 11 rfl rfl)
theorem dX3_play_36 : decode cX3_play 36 = .ok (.aload_n 0, 1) := dk_42 (dk_at dksX3_play_1 14 rfl rfl)
theorem dX3_play_37 : decode cX3_play 37 = .ok (.invokevirtual 282, 3) := dk_182 1 26 (dk_at dksX3_play_1 15 rfl rfl)
theorem dX3_play_40 : decode cX3_play 40 = .ok (.ifCond .ne 17, 3) := dk_154 0 17 (dk_at dksX3_play_1 18 rfl rfl)
theorem dX3_play_43 : decode cX3_play 43 = .ok (.aload_n 0, 1) := dk_42 (dk_at dksX3_play_1 21 rfl rfl)
theorem dX3_play_44 : decode cX3_play 44 = .ok (.aload_n 0, 1) := dk_42 (dk_at dksX3_play_1 22 rfl rfl)
theorem dX3_play_45 : decode cX3_play 45 = .ok (.invokevirtual 335, 3) := dk_182 1 79 (dk_at dksX3_play_2 0 rfl rfl)
theorem dX3_play_48 : decode cX3_play 48 = .ok (.invokevirtual 358, 3) := dk_182 1 102 (dk_at dksX3_play_2 3 rfl rfl)
theorem dX3_play_51 : decode cX3_play 51 = .ok (.iinc 2 1, 3) := dk_132 2 1 (dk_at dksX3_play_2 6 rfl rfl)
theorem dX3_play_54 : decode cX3_play 54 = .ok (.goto (-23), 3) := dk_167 255 233 (dk_at dksX3_play_2 9 rfl rfl)
theorem dX3_play_57 : decode cX3_play 57 = .ok (.iload_n 2, 1) := dk_28 (dk_at dksX3_play_2 12 rfl rfl)
theorem dX3_play_58 : decode cX3_play 58 = .ok (.ireturn, 1) := dk_172 (dk_at dksX3_play_2 13 rfl rfl)
/-- PackingDuelModel.play(I)I -/
def zb252 (G : zPg) (C : zO) (args : List Value) (Q : zQ) (Y : zY) (σ : zS) : Prop := ∃ (a0 : Nat) (x1 : Int32), args = [.ref a0, .int x1] ∧ (zput σ G.1 (some a0) 4 5 (.int (0 : Int32)) (fun s1 => zcl C 166 [.int x1, .int (1 : Int32), .int (30 : Int32)] Y s1 (zqI (fun v9 s10 => ((¬ v9 = 0) → zrc s10 (some a0) 4 (fun a16 => zcl C 237 [.ref a16] Y s10 (zqV (fun s14 => zrc s14 (some a0) 4 (fun a23 => zcl C 225 [.ref a23] Y s14 (zqV (fun s21 => ∃ n, zIt (fun _ _ => False) (fun rec29 (p27 : Int32) (s28 : zS) => zJ (fun  (s30 : zS) => Q (some (.int p27)) s30) (fun (j31 : zS → Prop) => ((x1 ≤ p27) → j31 s28) ∧ ((¬ x1 ≤ p27) → zrc s28 (some a0) 4 (fun a36 => zcl C 219 [.ref a36] Y s28 (zqI (fun v33 s34 => ((¬ v33 = 0) → j31 s34) ∧ ((v33 = 0) → zrc s34 (some a0) 4 (fun a44 => zcl C 231 [.ref a44] Y s34 (zqI (fun v41 s42 => zrc s42 (some a0) 4 (fun a51 => zcl C 250 [.ref a51, .int v41] Y s42 (zqV (fun s49 => (∀ v55 : Int32, v55 = p27 + (1 : Int32) → rec29 v55 s49)))))))))))))) n (0 : Int32) s21))))))) ∧ ((v9 = 0) → zrc s10 (some a0) 4 (fun a61 => zcl C 163 [.ref a61, .int (1 : Int32)] Y s10 (zqI (fun v58 s59 => Q (some (.int v58)) s59))))))))
set_option maxHeartbeats 4000000 in
theorem wk252 {l : Launch} {g : zG} {d : Nat} {C : zO} (hG : zGk g) (hC : zSound l g d C) {args : List Value} {Q : zQ} {Y : zY} {σ : zS} (hw : zb252 (zpg g) C args Q Y σ) : zMet l g (d + 1) (⟨"PackingDuelModel", "play", "(I)I"⟩, Cond.code ⟨"PackingDuelModel", "play", "(I)I"⟩ prog_28_method_97_code 3 (Option.some FieldType.int)) args σ Q Y := by
  obtain ⟨a0, x1, rfl, hw⟩ := hw
  refine zof hG (by decide +kernel) [false, false] ⟨rfl, rfl, trivial⟩ (Nat.le_of_ble_eq_true rfl) (ls := [some (va_rf (some a0)), some (.int x1), none]) rfl ?_
  intro X hX hR hTb hd1 hd2 hl hg hnm
  subst hl
  subst hg
  have hd : zDep X d := ⟨hd1, hd2⟩
  refine z_aload_n hX dX3_play_0 rfl (i := 0) rfl ?_
  refine z_iconst hX (v := (0 : Int32)) dX3_play_1 (by decide) ?_
  obtain ⟨a3, f4, r5, g6, m7, l8, hw⟩ := hw
  refine z_put hX zc4 (k := 5) dX3_play_2 (Nat.le_of_ble_eq_true rfl) (zlk hX q2474) rfl rfl rfl r5 g6 m7 l8 (z_nm (fun s1 e2 => ?_))
  have hw := hw s1 e2
  refine z_iload_n hX dX3_play_5 rfl (i := 1) rfl ?_
  refine z_iconst hX (v := (1 : Int32)) dX3_play_6 (by decide) ?_
  refine z_bipush hX (v := (30 : Int32)) dX3_play_7 (by decide) ?_
  refine z_invS hX hd dX3_play_9 (hC 166 _ zm166 _ _ _ _ hw) q2632 q2633 zh7 q2634 q136 zn166 rfl (Nat.le_of_ble_eq_true rfl) (st := []) rfl (zcs8 (Nat.le_of_ble_eq_true rfl)) rfl (zkI (fun v9 s10 hw => ?_)) (zout hX hR hTb)
  refine z_if_ne hX dX3_play_12 (tgt := 21) rfl (fun c12 => ?_) (fun c12 => ?_)
  · have hw := hw.1 c12
    refine z_aload_n hX dX3_play_21 rfl (i := 0) rfl ?_
    obtain ⟨a16, f17, r18, m19, hw⟩ := hw
    refine z_invV hX hd r18 (ci := 4) rfl rfl m19 dX3_play_22 (hC 237 _ zm237 _ _ _ _ hw) q2911 q2913 qs93 zh7 q2914 q136 zn237 rfl (Nat.le_of_ble_eq_true rfl) (st := []) rfl (zcs8 (Nat.le_of_ble_eq_true rfl)) rfl (zkV (fun s14 hw => ?_)) (zout hX hR hTb)
    refine z_aload_n hX dX3_play_25 rfl (i := 0) rfl ?_
    obtain ⟨a23, f24, r25, m26, hw⟩ := hw
    refine z_invV hX hd r25 (ci := 4) rfl rfl m26 dX3_play_26 (hC 225 _ zm225 _ _ _ _ hw) q2865 q2867 qs87 zh7 q2868 q136 zn225 rfl (Nat.le_of_ble_eq_true rfl) (st := []) rfl (zcs8 (Nat.le_of_ble_eq_true rfl)) rfl (zkV (fun s21 hw => ?_)) (zout hX hR hTb)
    refine z_iconst hX (v := (0 : Int32)) dX3_play_29 (by decide) ?_
    refine z_istore_n hX dX3_play_30 rfl (i := 2) (Nat.le_of_ble_eq_true rfl) rfl (ls2 := [some (va_rf (some a0)), some (.int x1), some (.int (0 : Int32))]) rfl ?_
    obtain ⟨n57, hw⟩ := hw
    refine zIt_w (P := fun (j : Int32 → zS → Prop) => ∀ (p27 : Int32) (s28 : zS), j p27 s28 → zW X s28 31 [some (va_rf (some a0)), some (.int x1), some (.int p27)] []) (fun _ _ h => h.elim) (fun rec29 hrec29 p27 s28 hw => ?_) n57 _ _ hw
    refine z_iload_n hX dX3_play_31 rfl (i := 2) rfl ?_
    refine z_iload_n hX dX3_play_32 rfl (i := 1) rfl ?_
    refine zJ_w (P := fun (j : zS → Prop) => ∀  (s30 : zS), j  s30 → zW X s30 57 [none, none, some (.int p27)] []) hw (fun  s30 hw => ?_) (fun j31 hj31 hw => ?_)
    · refine z_iload_n hX dX3_play_57 rfl (i := 2) rfl ?_
      exact z_ireturn hX hR dX3_play_58 rfl hw
    · refine z_icmp_ge hX dX3_play_33 (tgt := 57) rfl (fun c32 => ?_) (fun c32 => ?_)
      · have hw := hw.1 c32
        refine z_sub (ls' := [none, none, some (.int p27)]) (zsN (zsN (zsS (zs0)))) ?_
        exact hj31  _ hw
      · have hw := hw.2 c32
        refine z_aload_n hX dX3_play_36 rfl (i := 0) rfl ?_
        obtain ⟨a36, f37, r38, m39, hw⟩ := hw
        refine z_invV hX hd r38 (ci := 4) rfl rfl m39 dX3_play_37 (hC 219 _ zm219 _ _ _ _ hw) q2841 q2843 qs83 zh7 q2844 q136 zn219 rfl (Nat.le_of_ble_eq_true rfl) (st := []) rfl (zcs8 (Nat.le_of_ble_eq_true rfl)) rfl (zkI (fun v33 s34 hw => ?_)) (zout hX hR hTb)
        refine z_if_ne hX dX3_play_40 (tgt := 57) rfl (fun c40 => ?_) (fun c40 => ?_)
        · have hw := hw.1 c40
          refine z_sub (ls' := [none, none, some (.int p27)]) (zsN (zsN (zsS (zs0)))) ?_
          exact hj31  _ hw
        · have hw := hw.2 c40
          refine z_aload_n hX dX3_play_43 rfl (i := 0) rfl ?_
          refine z_aload_n hX dX3_play_44 rfl (i := 0) rfl ?_
          obtain ⟨a44, f45, r46, m47, hw⟩ := hw
          refine z_invV hX hd r46 (ci := 4) rfl rfl m47 dX3_play_45 (hC 231 _ zm231 _ _ _ _ hw) q2888 q2890 qs91 zh7 q2891 q136 zn231 rfl (Nat.le_of_ble_eq_true rfl) (st := [va_rf (some a0)]) rfl (zcs8 (Nat.le_of_ble_eq_true rfl)) rfl (zkI (fun v41 s42 hw => ?_)) (zout hX hR hTb)
          obtain ⟨a51, f52, r53, m54, hw⟩ := hw
          refine z_invV hX hd r53 (ci := 4) rfl rfl m54 dX3_play_48 (hC 250 _ zm250 _ _ _ _ hw) q2963 q2965 qs98 zh7 q2966 q136 zn250 rfl (Nat.le_of_ble_eq_true rfl) (st := []) rfl (zcs8 (Nat.le_of_ble_eq_true rfl)) rfl (zkV (fun s49 hw => ?_)) (zout hX hR hTb)
          obtain ⟨v55, e56⟩ : ∃ y : Int32, y = p27 + (1 : Int32) := ⟨_, rfl⟩
          refine z_iinc hX dX3_play_51 (i := 2) (v := v55) rfl (by rw [e56]; rfl) (Nat.le_of_ble_eq_true rfl) rfl (ls2 := [some (va_rf (some a0)), some (.int x1), some (.int v55)]) rfl ?_
          have hw := hw v55 e56
          refine z_goto hX dX3_play_54 (tgt := 31) rfl ?_
          exact hrec29 _ _ hw
  · have hw := hw.2 c12
    refine z_aload_n hX dX3_play_15 rfl (i := 0) rfl ?_
    refine z_iconst hX (v := (1 : Int32)) dX3_play_16 (by decide) ?_
    obtain ⟨a61, f62, r63, m64, hw⟩ := hw
    refine z_invV hX hd r63 (ci := 4) rfl rfl m64 dX3_play_17 (hC 163 _ zm163 _ _ _ _ hw) q2620 q2622 qs49 zh7 q2623 q136 zn163 rfl (Nat.le_of_ble_eq_true rfl) (st := []) rfl (zcs8 (Nat.le_of_ble_eq_true rfl)) rfl (zkI (fun v58 s59 hw => ?_)) (zout hX hR hTb)
    exact z_ireturn hX hR dX3_play_20 rfl hw
abbrev cX3_restart : ByteArray := prog_28_method_98_code
def yX3_restart : MethodName := ⟨RX3, "restart", "()I"⟩
def dkwX3_restart_0 : List UInt8 := [42, 3, 181, 0, 103, 42, 182, 1, 82, 42, 180, 0, 9, 16, 10, 46, 60, 42, 182, 1, 85, 27, 172]
abbrev dktX3_restart_0 : List UInt8 := dkwX3_restart_0 ++ []
theorem dksX3_restart_0 : cX3_restart.data.toList.drop 0 = dktX3_restart_0 := by decide +kernel
theorem dX3_restart_0 : decode cX3_restart 0 = .ok (.aload_n 0, 1) := dk_42 (dk_at dksX3_restart_0 0 rfl rfl)
theorem dX3_restart_1 : decode cX3_restart 1 = .ok (.iconst 0, 1) := dk_3 (dk_at dksX3_restart_0 1 rfl rfl)
theorem dX3_restart_2 : decode cX3_restart 2 = .ok (.putfield 103, 3) := dk_181 0 103 (dk_at dksX3_restart_0 2 rfl rfl)
theorem dX3_restart_5 : decode cX3_restart 5 = .ok (.aload_n 0, 1) := dk_42 (dk_at dksX3_restart_0 5 rfl rfl)
theorem dX3_restart_6 : decode cX3_restart 6 = .ok (.invokevirtual 338, 3) := dk_182 1 82 (dk_at dksX3_restart_0 6 rfl rfl)
theorem dX3_restart_9 : decode cX3_restart 9 = .ok (.aload_n 0, 1) := dk_42 (dk_at dksX3_restart_0 9 rfl rfl)
theorem dX3_restart_10 : decode cX3_restart 10 = .ok (.getfield 9, 3) := dk_180 0 9 (dk_at dksX3_restart_0 10 rfl rfl)
theorem dX3_restart_13 : decode cX3_restart 13 = .ok (.bipush 10, 2) := dk_16 10 (dk_at dksX3_restart_0 13 rfl rfl)
theorem dX3_restart_15 : decode cX3_restart 15 = .ok (.iaload, 1) := dk_46 (dk_at dksX3_restart_0 15 rfl rfl)
theorem dX3_restart_16 : decode cX3_restart 16 = .ok (.istore_n 1, 1) := dk_60 (dk_at dksX3_restart_0 16 rfl rfl)
theorem dX3_restart_17 : decode cX3_restart 17 = .ok (.aload_n 0, 1) := dk_42 (dk_at dksX3_restart_0 17 rfl rfl)
theorem dX3_restart_18 : decode cX3_restart 18 = .ok (.invokevirtual 341, 3) := dk_182 1 85 (dk_at dksX3_restart_0 18 rfl rfl)
theorem dX3_restart_21 : decode cX3_restart 21 = .ok (.iload_n 1, 1) := dk_27 (dk_at dksX3_restart_0 21 rfl rfl)
theorem dX3_restart_22 : decode cX3_restart 22 = .ok (.ireturn, 1) := dk_172 (dk_at dksX3_restart_0 22 rfl rfl)
/-- PackingDuelModel.restart()I -/
def zb253 (G : zPg) (C : zO) (args : List Value) (Q : zQ) (Y : zY) (σ : zS) : Prop := ∃ (a0 : Nat), args = [.ref a0] ∧ (zput σ G.1 (some a0) 4 5 (.int (0 : Int32)) (fun s1 => zrc s1 (some a0) 4 (fun a12 => zcl C 237 [.ref a12] Y s1 (zqV (fun s10 => zgR s10 (some a0) 4 0 (fun v16 => zaI s10 0 v16 (10 : Int32) (fun v28 => zrc s10 (some a0) 4 (fun a33 => zcl C 239 [.ref a33] Y s10 (zqV (fun s31 => Q (some (.int v28)) s31))))))))))
set_option maxHeartbeats 4000000 in
theorem wk253 {l : Launch} {g : zG} {d : Nat} {C : zO} (hG : zGk g) (hC : zSound l g d C) {args : List Value} {Q : zQ} {Y : zY} {σ : zS} (hw : zb253 (zpg g) C args Q Y σ) : zMet l g (d + 1) (⟨"PackingDuelModel", "restart", "()I"⟩, Cond.code ⟨"PackingDuelModel", "restart", "()I"⟩ prog_28_method_98_code 2 (Option.some FieldType.int)) args σ Q Y := by
  obtain ⟨a0, rfl, hw⟩ := hw
  refine zof hG (by decide +kernel) [false] ⟨rfl, trivial⟩ (Nat.le_of_ble_eq_true rfl) (ls := [some (va_rf (some a0)), none]) rfl ?_
  intro X hX hR hTb hd1 hd2 hl hg hnm
  subst hl
  subst hg
  have hd : zDep X d := ⟨hd1, hd2⟩
  refine z_aload_n hX dX3_restart_0 rfl (i := 0) rfl ?_
  refine z_iconst hX (v := (0 : Int32)) dX3_restart_1 (by decide) ?_
  obtain ⟨a3, f4, r5, g6, m7, l8, hw⟩ := hw
  refine z_put hX zc4 (k := 5) dX3_restart_2 (Nat.le_of_ble_eq_true rfl) (zlk hX q2474) rfl rfl rfl r5 g6 m7 l8 (z_nm (fun s1 e2 => ?_))
  have hw := hw s1 e2
  refine z_aload_n hX dX3_restart_5 rfl (i := 0) rfl ?_
  obtain ⟨a12, f13, r14, m15, hw⟩ := hw
  refine z_invV hX hd r14 (ci := 4) rfl rfl m15 dX3_restart_6 (hC 237 _ zm237 _ _ _ _ hw) q2911 q2913 qs93 zh7 q2914 q136 zn237 rfl (Nat.le_of_ble_eq_true rfl) (st := []) rfl (zcs8 (Nat.le_of_ble_eq_true rfl)) rfl (zkV (fun s10 hw => ?_)) (zout hX hR hTb)
  refine z_aload_n hX dX3_restart_9 rfl (i := 0) rfl ?_
  obtain ⟨a17, f18, v16, r19, m20, e21, hw⟩ := hw
  refine z_get hX zc4 (k := 0) dX3_restart_10 (Nat.le_of_ble_eq_true rfl) (zlk hX q2469) r19 m20 e21 ?_
  refine z_bipush hX (v := (10 : Int32)) dX3_restart_13 (by decide) ?_
  obtain ⟨a22, n23, f24, r25, m26, i27, hw⟩ := hw
  refine z_iald hX dX3_restart_15 r25 m26 i27 ?_
  revert hw
  generalize f24 (Int32.toNatClampNeg (10 : Int32)) = v28
  intro hw
  refine z_istore_n hX dX3_restart_16 rfl (i := 1) (Nat.le_of_ble_eq_true rfl) (zc_rf _) (ls2 := [some (va_rf (some a0)), some (.int v28)]) rfl ?_
  refine z_aload_n hX dX3_restart_17 rfl (i := 0) rfl ?_
  obtain ⟨a33, f34, r35, m36, hw⟩ := hw
  refine z_invV hX hd r35 (ci := 4) rfl rfl m36 dX3_restart_18 (hC 239 _ zm239 _ _ _ _ hw) q2918 q2920 qs94 zh7 q2921 q136 zn239 rfl (Nat.le_of_ble_eq_true rfl) (st := []) rfl (zcs8 (Nat.le_of_ble_eq_true rfl)) rfl (zkV (fun s31 hw => ?_)) (zout hX hR hTb)
  refine z_iload_n hX dX3_restart_21 rfl (i := 1) rfl ?_
  exact z_ireturn hX hR dX3_restart_22 rfl hw
abbrev cX3_format : ByteArray := prog_28_method_101_code
def yX3_format : MethodName := ⟨RX3, "format", "(I)I"⟩
def dkwX3_format_5 : List UInt8 := [172]
abbrev dktX3_format_5 : List UInt8 := dkwX3_format_5 ++ []
def dkwX3_format_4 : List UInt8 := [182, 1, 109, 42, 42, 180, 0, 25, 27, 46, 42, 180, 0, 31, 28, 46, 100, 182, 1, 114, 42, 180, 1, 106]
abbrev dktX3_format_4 : List UInt8 := dkwX3_format_4 ++ dktX3_format_5
def dkwX3_format_3 : List UInt8 := [160, 0, 8, 16, 82, 167, 0, 5, 16, 46, 182, 1, 109, 132, 3, 1, 167, 255, 211, 42, 16, 32]
abbrev dktX3_format_3 : List UInt8 := dkwX3_format_3 ++ dktX3_format_4
def dkwX3_format_2 : List UInt8 := [162, 0, 43, 42, 27, 29, 122, 4, 126, 4, 160, 0, 8, 16, 80, 167, 0, 19, 28, 29, 122, 4, 126, 4]
abbrev dktX3_format_2 : List UInt8 := dkwX3_format_2 ++ dktX3_format_3
def dkwX3_format_1 : List UInt8 := [27, 42, 180, 0, 9, 5, 46, 4, 182, 0, 139, 61, 42, 3, 181, 1, 106, 3, 62, 29, 42, 182, 0, 106]
abbrev dktX3_format_1 : List UInt8 := dkwX3_format_1 ++ dktX3_format_2
def dkwX3_format_0 : List UInt8 := [42, 3, 181, 0, 103, 42, 27, 182, 1, 39, 154, 0, 9, 42, 4, 182, 1, 33, 172, 42, 182, 0, 133, 42]
abbrev dktX3_format_0 : List UInt8 := dkwX3_format_0 ++ dktX3_format_1
theorem dksX3_format_0 : cX3_format.data.toList.drop 0 = dktX3_format_0 := by decide +kernel
theorem dksX3_format_1 : cX3_format.data.toList.drop 24 = dktX3_format_1 := dk_seg dksX3_format_0 24 rfl rfl
theorem dksX3_format_2 : cX3_format.data.toList.drop 48 = dktX3_format_2 := dk_seg dksX3_format_1 24 rfl rfl
theorem dksX3_format_3 : cX3_format.data.toList.drop 72 = dktX3_format_3 := dk_seg dksX3_format_2 24 rfl rfl
theorem dksX3_format_4 : cX3_format.data.toList.drop 94 = dktX3_format_4 := dk_seg dksX3_format_3 22 rfl rfl
theorem dksX3_format_5 : cX3_format.data.toList.drop 118 = dktX3_format_5 := dk_seg dksX3_format_4 24 rfl rfl
theorem dX3_format_0 : decode cX3_format 0 = .ok (.aload_n 0, 1) := dk_42 (dk_at dksX3_format_0 0 rfl rfl)
theorem dX3_format_1 : decode cX3_format 1 = .ok (.iconst 0, 1) := dk_3 (dk_at dksX3_format_0 1 rfl rfl)
theorem dX3_format_2 : decode cX3_format 2 = .ok (.putfield 103, 3) := dk_181 0 103 (dk_at dksX3_format_0 2 rfl rfl)
theorem dX3_format_5 : decode cX3_format 5 = .ok (.aload_n 0, 1) := dk_42 (dk_at dksX3_format_0 5 rfl rfl)
theorem dX3_format_6 : decode cX3_format 6 = .ok (.iload_n 1, 1) := dk_27 (dk_at dksX3_format_0 6 rfl rfl)
theorem dX3_format_7 : decode cX3_format 7 = .ok (.invokevirtual 295, 3) := dk_182 1 39 (dk_at dksX3_format_0 7 rfl rfl)
theorem dX3_format_10 : decode cX3_format 10 = .ok (.ifCond .ne 9, 3) := dk_154 0 9 (dk_at dksX3_format_0 10 rfl rfl)
theorem dX3_format_13 : decode cX3_format 13 = .ok (.aload_n 0, 1) := dk_42 (dk_at dksX3_format_0 13 rfl rfl)
theorem dX3_format_14 : decode cX3_format 14 = .ok (.iconst 1, 1) := dk_4 (dk_at dksX3_format_0 14 rfl rfl)
theorem dX3_format_15 : decode cX3_format 15 = .ok (.invokevirtual 289, 3) := dk_182 1 33 (dk_at dksX3_format_0 15 rfl rfl)
theorem dX3_format_18 : decode cX3_format 18 = .ok (.ireturn, 1) := dk_172 (dk_at dksX3_format_0 18 rfl rfl)
theorem dX3_format_19 : decode cX3_format 19 = .ok (.aload_n 0, 1) := dk_42 (dk_at dksX3_format_0 19 rfl rfl)
theorem dX3_format_20 : decode cX3_format 20 = .ok (.invokevirtual 133, 3) := dk_182 0 133 (dk_at dksX3_format_0 20 rfl rfl)
theorem dX3_format_23 : decode cX3_format 23 = .ok (.aload_n 0, 1) := dk_42 (dk_at dksX3_format_0 23 rfl rfl)
theorem dX3_format_24 : decode cX3_format 24 = .ok (.iload_n 1, 1) := dk_27 (dk_at dksX3_format_1 0 rfl rfl)
theorem dX3_format_25 : decode cX3_format 25 = .ok (.aload_n 0, 1) := dk_42 (dk_at dksX3_format_1 1 rfl rfl)
theorem dX3_format_26 : decode cX3_format 26 = .ok (.getfield 9, 3) := dk_180 0 9 (dk_at dksX3_format_1 2 rfl rfl)
theorem dX3_format_29 : decode cX3_format 29 = .ok (.iconst 2, 1) := dk_5 (dk_at dksX3_format_1 5 rfl rfl)
theorem dX3_format_30 : decode cX3_format 30 = .ok (.iaload, 1) := dk_46 (dk_at dksX3_format_1 6 rfl rfl)
theorem dX3_format_31 : decode cX3_format 31 = .ok (.iconst 1, 1) := dk_4 (dk_at dksX3_format_1 7 rfl rfl)
theorem dX3_format_32 : decode cX3_format 32 = .ok (.invokevirtual 139, 3) := dk_182 0 139 (dk_at dksX3_format_1 8 rfl rfl)
theorem dX3_format_35 : decode cX3_format 35 = .ok (.istore_n 2, 1) := dk_61 (dk_at dksX3_format_1 11 rfl rfl)
theorem dX3_format_36 : decode cX3_format 36 = .ok (.aload_n 0, 1) := dk_42 (dk_at dksX3_format_1 12 rfl rfl)
theorem dX3_format_37 : decode cX3_format 37 = .ok (.iconst 0, 1) := dk_3 (dk_at dksX3_format_1 13 rfl rfl)
theorem dX3_format_38 : decode cX3_format 38 = .ok (.putfield 362, 3) := dk_181 1 106 (dk_at dksX3_format_1 14 rfl rfl)
theorem dX3_format_41 : decode cX3_format 41 = .ok (.iconst 0, 1) := dk_3 (dk_at dksX3_format_1 17 rfl rfl)
theorem dX3_format_42 : decode cX3_format 42 = .ok (.istore_n 3, 1) := dk_62 (dk_at dksX3_format_1 18 rfl rfl)
theorem dX3_format_43 : decode cX3_format 43 = .ok (.iload_n 3, 1) := dk_29 (dk_at dksX3_format_1 19 rfl rfl)
theorem dX3_format_44 : decode cX3_format 44 = .ok (.aload_n 0, 1) := dk_42 (dk_at dksX3_format_1 20 rfl rfl)
theorem dX3_format_45 : decode cX3_format 45 = .ok (.invokevirtual 106, 3) := dk_182 0 106 (dk_at dksX3_format_1 21 rfl rfl)
theorem dX3_format_48 : decode cX3_format 48 = .ok (.if_icmp .ge 43, 3) := dk_162 0 43 (dk_at dksX3_format_2 0 rfl rfl)
theorem dX3_format_51 : decode cX3_format 51 = .ok (.aload_n 0, 1) := dk_42 (dk_at dksX3_format_2 3 rfl rfl)
theorem dX3_format_52 : decode cX3_format 52 = .ok (.iload_n 1, 1) := dk_27 (dk_at dksX3_format_2 4 rfl rfl)
theorem dX3_format_53 : decode cX3_format 53 = .ok (.iload_n 3, 1) := dk_29 (dk_at dksX3_format_2 5 rfl rfl)
theorem dX3_format_54 : decode cX3_format 54 = .ok (.ishr, 1) := dk_122 (dk_at dksX3_format_2 6 rfl rfl)
theorem dX3_format_55 : decode cX3_format 55 = .ok (.iconst 1, 1) := dk_4 (dk_at dksX3_format_2 7 rfl rfl)
theorem dX3_format_56 : decode cX3_format 56 = .ok (.iand, 1) := dk_126 (dk_at dksX3_format_2 8 rfl rfl)
theorem dX3_format_57 : decode cX3_format 57 = .ok (.iconst 1, 1) := dk_4 (dk_at dksX3_format_2 9 rfl rfl)
theorem dX3_format_58 : decode cX3_format 58 = .ok (.if_icmp .ne 8, 3) := dk_160 0 8 (dk_at dksX3_format_2 10 rfl rfl)
theorem dX3_format_61 : decode cX3_format 61 = .ok (.bipush 80, 2) := dk_16 80 (dk_at dksX3_format_2 13 rfl rfl)
theorem dX3_format_63 : decode cX3_format 63 = .ok (.goto 19, 3) := dk_167 0 19 (dk_at dksX3_format_2 15 rfl rfl)
theorem dX3_format_66 : decode cX3_format 66 = .ok (.iload_n 2, 1) := dk_28 (dk_at dksX3_format_2 18 rfl rfl)
theorem dX3_format_67 : decode cX3_format 67 = .ok (.iload_n 3, 1) := dk_29 (dk_at dksX3_format_2 19 rfl rfl)
theorem dX3_format_68 : decode cX3_format 68 = .ok (.ishr, 1) := dk_122 (dk_at dksX3_format_2 20 rfl rfl)
theorem dX3_format_69 : decode cX3_format 69 = .ok (.iconst 1, 1) := dk_4 (dk_at dksX3_format_2 21 rfl rfl)
theorem dX3_format_70 : decode cX3_format 70 = .ok (.iand, 1) := dk_126 (dk_at dksX3_format_2 22 rfl rfl)
theorem dX3_format_71 : decode cX3_format 71 = .ok (.iconst 1, 1) := dk_4 (dk_at dksX3_format_2 23 rfl rfl)
theorem dX3_format_72 : decode cX3_format 72 = .ok (.if_icmp .ne 8, 3) := dk_160 0 8 (dk_at dksX3_format_3 0 rfl rfl)
theorem dX3_format_75 : decode cX3_format 75 = .ok (.bipush 82, 2) := dk_16 82 (dk_at dksX3_format_3 3 rfl rfl)
theorem dX3_format_77 : decode cX3_format 77 = .ok (.goto 5, 3) := dk_167 0 5 (dk_at dksX3_format_3 5 rfl rfl)
theorem dX3_format_80 : decode cX3_format 80 = .ok (.bipush 46, 2) := dk_16 46 (dk_at dksX3_format_3 8 rfl rfl)
theorem dX3_format_82 : decode cX3_format 82 = .ok (.invokevirtual 365, 3) := dk_182 1 109 (dk_at dksX3_format_3 10 rfl rfl)
theorem dX3_format_85 : decode cX3_format 85 = .ok (.iinc 3 1, 3) := dk_132 3 1 (dk_at dksX3_format_3 13 rfl rfl)
theorem dX3_format_88 : decode cX3_format 88 = .ok (.goto (-45), 3) := dk_167 255 211 (dk_at dksX3_format_3 16 rfl rfl)
theorem dX3_format_91 : decode cX3_format 91 = .ok (.aload_n 0, 1) := dk_42 (dk_at dksX3_format_3 19 rfl rfl)
theorem dX3_format_92 : decode cX3_format 92 = .ok (.bipush 32, 2) := dk_16 32 (dk_at dksX3_format_3 20 rfl rfl)
theorem dX3_format_94 : decode cX3_format 94 = .ok (.invokevirtual 365, 3) := dk_182 1 109 (dk_at dksX3_format_4 0 rfl rfl)
theorem dX3_format_97 : decode cX3_format 97 = .ok (.aload_n 0, 1) := dk_42 (dk_at dksX3_format_4 3 rfl rfl)
theorem dX3_format_98 : decode cX3_format 98 = .ok (.aload_n 0, 1) := dk_42 (dk_at dksX3_format_4 4 rfl rfl)
theorem dX3_format_99 : decode cX3_format 99 = .ok (.getfield 25, 3) := dk_180 0 25 (dk_at dksX3_format_4 5 rfl rfl)
theorem dX3_format_102 : decode cX3_format 102 = .ok (.iload_n 1, 1) := dk_27 (dk_at dksX3_format_4 8 rfl rfl)
theorem dX3_format_103 : decode cX3_format 103 = .ok (.iaload, 1) := dk_46 (dk_at dksX3_format_4 9 rfl rfl)
theorem dX3_format_104 : decode cX3_format 104 = .ok (.aload_n 0, 1) := dk_42 (dk_at dksX3_format_4 10 rfl rfl)
theorem dX3_format_105 : decode cX3_format 105 = .ok (.getfield 31, 3) := dk_180 0 31 (dk_at dksX3_format_4 11 rfl rfl)
theorem dX3_format_108 : decode cX3_format 108 = .ok (.iload_n 2, 1) := dk_28 (dk_at dksX3_format_4 14 rfl rfl)
theorem dX3_format_109 : decode cX3_format 109 = .ok (.iaload, 1) := dk_46 (dk_at dksX3_format_4 15 rfl rfl)
theorem dX3_format_110 : decode cX3_format 110 = .ok (.isub, 1) := dk_100 (dk_at dksX3_format_4 16 rfl rfl)
theorem dX3_format_111 : decode cX3_format 111 = .ok (.invokevirtual 370, 3) := dk_182 1 114 (dk_at dksX3_format_4 17 rfl rfl)
theorem dX3_format_114 : decode cX3_format 114 = .ok (.aload_n 0, 1) := dk_42 (dk_at dksX3_format_4 20 rfl rfl)
theorem dX3_format_115 : decode cX3_format 115 = .ok (.getfield 362, 3) := dk_180 1 106 (dk_at dksX3_format_4 21 rfl rfl)
theorem dX3_format_118 : decode cX3_format 118 = .ok (.ireturn, 1) := dk_172 (dk_at dksX3_format_5 0 rfl rfl)
/-- PackingDuelModel.format(I)I -/
def zb254 (G : zPg) (C : zO) (args : List Value) (Q : zQ) (Y : zY) (σ : zS) : Prop := ∃ (a0 : Nat) (x1 : Int32), args = [.ref a0, .int x1] ∧ (zput σ G.1 (some a0) 4 5 (.int (0 : Int32)) (fun s1 => zrc s1 (some a0) 4 (fun a12 => zcl C 171 [.ref a12, .int x1] Y s1 (zqI (fun v9 s10 => ((¬ v9 = 0) → zrc s10 (some a0) 4 (fun a20 => zcl C 172 [.ref a20] Y s10 (zqV (fun s18 => zgR s18 (some a0) 4 0 (fun v24 => zaI s18 0 v24 (2 : Int32) (fun v36 => zrc s18 (some a0) 4 (fun a41 => zcl C 173 [.ref a41, .int x1, .int v36, .int (1 : Int32)] Y s18 (zqI (fun v38 s39 => zput s39 G.1 (some a0) 4 26 (.int (0 : Int32)) (fun s45 => ∃ n, zIt (fun _ _ => False) (fun rec55 (p53 : Int32) (s54 : zS) => zrc s54 (some a0) 4 (fun a59 => zcl C 159 [.ref a59] Y s54 (zqI (fun v56 s57 => ((v56 ≤ p53) → zrc s57 (some a0) 4 (fun a67 => zcl C 255 [.ref a67, .int (32 : Int32)] Y s57 (zqV (fun s65 => zgR s65 (some a0) 4 8 (fun v71 => zaI s65 0 v71 x1 (fun v83 => zgR s65 (some a0) 4 10 (fun v85 => zaI s65 0 v85 v38 (fun v97 => zrc s65 (some a0) 4 (fun a102 => zcl C 256 [.ref a102, .int (v83 - v97)] Y s65 (zqV (fun s100 => zgI s100 (some a0) 4 26 (fun v106 => Q (some (.int v106)) s100)))))))))))) ∧ ((¬ v56 ≤ p53) → zJ (fun (p112 : Int32) (s113 : zS) => zrc s113 (some a0) 4 (fun a118 => zcl C 255 [.ref a118, .int p112] Y s113 (zqV (fun s116 => (∀ v122 : Int32, v122 = p53 + (1 : Int32) → rec55 v122 s116))))) (fun (j114 : Int32 → zS → Prop) => ((¬ ((x1 >>> (p53 &&& 31)) &&& (1 : Int32)) = (1 : Int32)) → ((¬ ((v38 >>> (p53 &&& 31)) &&& (1 : Int32)) = (1 : Int32)) → j114 (46 : Int32) s57) ∧ ((((v38 >>> (p53 &&& 31)) &&& (1 : Int32)) = (1 : Int32)) → j114 (82 : Int32) s57)) ∧ ((((x1 >>> (p53 &&& 31)) &&& (1 : Int32)) = (1 : Int32)) → j114 (80 : Int32) s57))))))) n (0 : Int32) s45)))))))))) ∧ ((v9 = 0) → zrc s10 (some a0) 4 (fun a130 => zcl C 163 [.ref a130, .int (1 : Int32)] Y s10 (zqI (fun v127 s128 => Q (some (.int v127)) s128)))))))))
set_option maxHeartbeats 4000000 in
theorem wk254 {l : Launch} {g : zG} {d : Nat} {C : zO} (hG : zGk g) (hC : zSound l g d C) {args : List Value} {Q : zQ} {Y : zY} {σ : zS} (hw : zb254 (zpg g) C args Q Y σ) : zMet l g (d + 1) (⟨"PackingDuelModel", "format", "(I)I"⟩, Cond.code ⟨"PackingDuelModel", "format", "(I)I"⟩ prog_28_method_101_code 4 (Option.some FieldType.int)) args σ Q Y := by
  obtain ⟨a0, x1, rfl, hw⟩ := hw
  refine zof hG (by decide +kernel) [false, false] ⟨rfl, rfl, trivial⟩ (Nat.le_of_ble_eq_true rfl) (ls := [some (va_rf (some a0)), some (.int x1), none, none]) rfl ?_
  intro X hX hR hTb hd1 hd2 hl hg hnm
  subst hl
  subst hg
  have hd : zDep X d := ⟨hd1, hd2⟩
  refine z_aload_n hX dX3_format_0 rfl (i := 0) rfl ?_
  refine z_iconst hX (v := (0 : Int32)) dX3_format_1 (by decide) ?_
  obtain ⟨a3, f4, r5, g6, m7, l8, hw⟩ := hw
  refine z_put hX zc4 (k := 5) dX3_format_2 (Nat.le_of_ble_eq_true rfl) (zlk hX q2474) rfl rfl rfl r5 g6 m7 l8 (z_nm (fun s1 e2 => ?_))
  have hw := hw s1 e2
  refine z_aload_n hX dX3_format_5 rfl (i := 0) rfl ?_
  refine z_iload_n hX dX3_format_6 rfl (i := 1) rfl ?_
  obtain ⟨a12, f13, r14, m15, hw⟩ := hw
  refine z_invV hX hd r14 (ci := 4) rfl rfl m15 dX3_format_7 (hC 171 _ zm171 _ _ _ _ hw) q2651 q2653 qs53 zh7 q2654 q136 zn171 rfl (Nat.le_of_ble_eq_true rfl) (st := []) rfl (zcs8 (Nat.le_of_ble_eq_true rfl)) rfl (zkI (fun v9 s10 hw => ?_)) (zout hX hR hTb)
  refine z_if_ne hX dX3_format_10 (tgt := 19) rfl (fun c16 => ?_) (fun c16 => ?_)
  · have hw := hw.1 c16
    refine z_aload_n hX dX3_format_19 rfl (i := 0) rfl ?_
    obtain ⟨a20, f21, r22, m23, hw⟩ := hw
    refine z_invV hX hd r22 (ci := 4) rfl rfl m23 dX3_format_20 (hC 172 _ zm172 _ _ _ _ hw) q2655 q2657 qs54 zh7 q2658 q136 zn172 rfl (Nat.le_of_ble_eq_true rfl) (st := []) rfl (zcs8 (Nat.le_of_ble_eq_true rfl)) rfl (zkV (fun s18 hw => ?_)) (zout hX hR hTb)
    refine z_aload_n hX dX3_format_23 rfl (i := 0) rfl ?_
    refine z_iload_n hX dX3_format_24 rfl (i := 1) rfl ?_
    refine z_aload_n hX dX3_format_25 rfl (i := 0) rfl ?_
    obtain ⟨a25, f26, v24, r27, m28, e29, hw⟩ := hw
    refine z_get hX zc4 (k := 0) dX3_format_26 (Nat.le_of_ble_eq_true rfl) (zlk hX q2469) r27 m28 e29 ?_
    refine z_iconst hX (v := (2 : Int32)) dX3_format_29 (by decide) ?_
    obtain ⟨a30, n31, f32, r33, m34, i35, hw⟩ := hw
    refine z_iald hX dX3_format_30 r33 m34 i35 ?_
    revert hw
    generalize f32 (Int32.toNatClampNeg (2 : Int32)) = v36
    intro hw
    refine z_iconst hX (v := (1 : Int32)) dX3_format_31 (by decide) ?_
    obtain ⟨a41, f42, r43, m44, hw⟩ := hw
    refine z_invV hX hd r43 (ci := 4) rfl rfl m44 dX3_format_32 (hC 173 _ zm173 _ _ _ _ hw) q2659 q2661 qs55 zh7 q2662 q136 zn173 rfl (Nat.le_of_ble_eq_true rfl) (st := []) rfl (zcs8 (Nat.le_of_ble_eq_true rfl)) rfl (zkI (fun v38 s39 hw => ?_)) (zout hX hR hTb)
    refine z_istore_n hX dX3_format_35 rfl (i := 2) (Nat.le_of_ble_eq_true rfl) rfl (ls2 := [some (va_rf (some a0)), some (.int x1), some (.int v38), none]) rfl ?_
    refine z_aload_n hX dX3_format_36 rfl (i := 0) rfl ?_
    refine z_iconst hX (v := (0 : Int32)) dX3_format_37 (by decide) ?_
    obtain ⟨a47, f48, r49, g50, m51, l52, hw⟩ := hw
    refine z_put hX zc4 (k := 26) dX3_format_38 (Nat.le_of_ble_eq_true rfl) (zlk hX q2495) rfl rfl rfl r49 g50 m51 l52 (z_nm (fun s45 e46 => ?_))
    have hw := hw s45 e46
    refine z_iconst hX (v := (0 : Int32)) dX3_format_41 (by decide) ?_
    refine z_istore_n hX dX3_format_42 rfl (i := 3) (Nat.le_of_ble_eq_true rfl) rfl (ls2 := [some (va_rf (some a0)), some (.int x1), some (.int v38), some (.int (0 : Int32))]) rfl ?_
    obtain ⟨n126, hw⟩ := hw
    refine zIt_w (P := fun (j : Int32 → zS → Prop) => ∀ (p53 : Int32) (s54 : zS), j p53 s54 → zW X s54 43 [some (va_rf (some a0)), some (.int x1), some (.int v38), some (.int p53)] []) (fun _ _ h => h.elim) (fun rec55 hrec55 p53 s54 hw => ?_) n126 _ _ hw
    refine z_iload_n hX dX3_format_43 rfl (i := 3) rfl ?_
    refine z_aload_n hX dX3_format_44 rfl (i := 0) rfl ?_
    obtain ⟨a59, f60, r61, m62, hw⟩ := hw
    refine z_invV hX hd r61 (ci := 4) rfl rfl m62 dX3_format_45 (hC 159 _ zm159 _ _ _ _ hw) q2605 q2607 qs46 zh7 q2608 q136 zn159 rfl (Nat.le_of_ble_eq_true rfl) (st := [.int p53]) rfl (zcs8 (Nat.le_of_ble_eq_true rfl)) rfl (zkI (fun v56 s57 hw => ?_)) (zout hX hR hTb)
    refine z_icmp_ge hX dX3_format_48 (tgt := 91) rfl (fun c63 => ?_) (fun c63 => ?_)
    · have hw := hw.1 c63
      refine z_aload_n hX dX3_format_91 rfl (i := 0) rfl ?_
      refine z_bipush hX (v := (32 : Int32)) dX3_format_92 (by decide) ?_
      obtain ⟨a67, f68, r69, m70, hw⟩ := hw
      refine z_invV hX hd r69 (ci := 4) rfl rfl m70 dX3_format_94 (hC 255 _ zm255 _ _ _ _ hw) q2983 q2985 qs99 zh7 q2986 q136 zn255 rfl (Nat.le_of_ble_eq_true rfl) (st := []) rfl (zcs8 (Nat.le_of_ble_eq_true rfl)) rfl (zkV (fun s65 hw => ?_)) (zout hX hR hTb)
      refine z_aload_n hX dX3_format_97 rfl (i := 0) rfl ?_
      refine z_aload_n hX dX3_format_98 rfl (i := 0) rfl ?_
      obtain ⟨a72, f73, v71, r74, m75, e76, hw⟩ := hw
      refine z_get hX zc4 (k := 8) dX3_format_99 (Nat.le_of_ble_eq_true rfl) (zlk hX q2477) r74 m75 e76 ?_
      refine z_iload_n hX dX3_format_102 rfl (i := 1) rfl ?_
      obtain ⟨a77, n78, f79, r80, m81, i82, hw⟩ := hw
      refine z_iald hX dX3_format_103 r80 m81 i82 ?_
      revert hw
      generalize f79 (Int32.toNatClampNeg x1) = v83
      intro hw
      refine z_aload_n hX dX3_format_104 rfl (i := 0) rfl ?_
      obtain ⟨a86, f87, v85, r88, m89, e90, hw⟩ := hw
      refine z_get hX zc4 (k := 10) dX3_format_105 (Nat.le_of_ble_eq_true rfl) (zlk hX q2479) r88 m89 e90 ?_
      refine z_iload_n hX dX3_format_108 rfl (i := 2) rfl ?_
      obtain ⟨a91, n92, f93, r94, m95, i96, hw⟩ := hw
      refine z_iald hX dX3_format_109 r94 m95 i96 ?_
      revert hw
      generalize f93 (Int32.toNatClampNeg v38) = v97
      intro hw
      refine z_isub hX dX3_format_110 ?_
      obtain ⟨a102, f103, r104, m105, hw⟩ := hw
      refine z_invV hX hd r104 (ci := 4) rfl rfl m105 dX3_format_111 (hC 256 _ zm256 _ _ _ _ hw) q2987 q2989 qs100 zh7 q2990 q136 zn256 rfl (Nat.le_of_ble_eq_true rfl) (st := []) rfl (zcs8 (Nat.le_of_ble_eq_true rfl)) rfl (zkV (fun s100 hw => ?_)) (zout hX hR hTb)
      refine z_aload_n hX dX3_format_114 rfl (i := 0) rfl ?_
      obtain ⟨a107, f108, v106, r109, m110, e111, hw⟩ := hw
      refine z_get hX zc4 (k := 26) dX3_format_115 (Nat.le_of_ble_eq_true rfl) (zlk hX q2495) r109 m110 e111 ?_
      exact z_ireturn hX hR dX3_format_118 rfl hw
    · have hw := hw.2 c63
      refine z_aload_n hX dX3_format_51 rfl (i := 0) rfl ?_
      refine z_iload_n hX dX3_format_52 rfl (i := 1) rfl ?_
      refine z_iload_n hX dX3_format_53 rfl (i := 3) rfl ?_
      refine z_ishr hX dX3_format_54 ?_
      refine z_iconst hX (v := (1 : Int32)) dX3_format_55 (by decide) ?_
      refine z_iand hX dX3_format_56 ?_
      refine z_iconst hX (v := (1 : Int32)) dX3_format_57 (by decide) ?_
      refine zJ_w (P := fun (j : Int32 → zS → Prop) => ∀ (p112 : Int32) (s113 : zS), j p112 s113 → zW X s113 82 [some (va_rf (some a0)), some (.int x1), some (.int v38), some (.int p53)] [.int p112, va_rf (some a0)]) hw (fun p112 s113 hw => ?_) (fun j114 hj114 hw => ?_)
      · obtain ⟨a118, f119, r120, m121, hw⟩ := hw
        refine z_invV hX hd r120 (ci := 4) rfl rfl m121 dX3_format_82 (hC 255 _ zm255 _ _ _ _ hw) q2983 q2985 qs99 zh7 q2986 q136 zn255 rfl (Nat.le_of_ble_eq_true rfl) (st := []) rfl (zcs8 (Nat.le_of_ble_eq_true rfl)) rfl (zkV (fun s116 hw => ?_)) (zout hX hR hTb)
        obtain ⟨v122, e123⟩ : ∃ y : Int32, y = p53 + (1 : Int32) := ⟨_, rfl⟩
        refine z_iinc hX dX3_format_85 (i := 3) (v := v122) rfl (by rw [e123]; rfl) (Nat.le_of_ble_eq_true rfl) rfl (ls2 := [some (va_rf (some a0)), some (.int x1), some (.int v38), some (.int v122)]) rfl ?_
        have hw := hw v122 e123
        refine z_goto hX dX3_format_88 (tgt := 43) rfl ?_
        exact hrec55 _ _ hw
      · refine z_icmp_ne hX dX3_format_58 (tgt := 66) rfl (fun c124 => ?_) (fun c124 => ?_)
        · have hw := hw.1 c124
          refine z_iload_n hX dX3_format_66 rfl (i := 2) rfl ?_
          refine z_iload_n hX dX3_format_67 rfl (i := 3) rfl ?_
          refine z_ishr hX dX3_format_68 ?_
          refine z_iconst hX (v := (1 : Int32)) dX3_format_69 (by decide) ?_
          refine z_iand hX dX3_format_70 ?_
          refine z_iconst hX (v := (1 : Int32)) dX3_format_71 (by decide) ?_
          refine z_icmp_ne hX dX3_format_72 (tgt := 80) rfl (fun c125 => ?_) (fun c125 => ?_)
          · have hw := hw.1 c125
            refine z_bipush hX (v := (46 : Int32)) dX3_format_80 (by decide) ?_
            exact hj114 _ _ hw
          · have hw := hw.2 c125
            refine z_bipush hX (v := (82 : Int32)) dX3_format_75 (by decide) ?_
            refine z_goto hX dX3_format_77 (tgt := 82) rfl ?_
            exact hj114 _ _ hw
        · have hw := hw.2 c124
          refine z_bipush hX (v := (80 : Int32)) dX3_format_61 (by decide) ?_
          refine z_goto hX dX3_format_63 (tgt := 82) rfl ?_
          exact hj114 _ _ hw
  · have hw := hw.2 c16
    refine z_aload_n hX dX3_format_13 rfl (i := 0) rfl ?_
    refine z_iconst hX (v := (1 : Int32)) dX3_format_14 (by decide) ?_
    obtain ⟨a130, f131, r132, m133, hw⟩ := hw
    refine z_invV hX hd r132 (ci := 4) rfl rfl m133 dX3_format_15 (hC 163 _ zm163 _ _ _ _ hw) q2620 q2622 qs49 zh7 q2623 q136 zn163 rfl (Nat.le_of_ble_eq_true rfl) (st := []) rfl (zcs8 (Nat.le_of_ble_eq_true rfl)) rfl (zkI (fun v127 s128 hw => ?_)) (zout hX hR hTb)
    exact z_ireturn hX hR dX3_format_18 rfl hw
abbrev cX3_write : ByteArray := prog_28_method_99_code
def yX3_write : MethodName := ⟨RX3, "write", "(I)V"⟩
def dkwX3_write_0 : List UInt8 := [42, 180, 0, 59, 42, 180, 1, 106, 27, 79, 42, 89, 180, 1, 106, 4, 96, 181, 1, 106, 177]
abbrev dktX3_write_0 : List UInt8 := dkwX3_write_0 ++ []
theorem dksX3_write_0 : cX3_write.data.toList.drop 0 = dktX3_write_0 := by decide +kernel
theorem dX3_write_0 : decode cX3_write 0 = .ok (.aload_n 0, 1) := dk_42 (dk_at dksX3_write_0 0 rfl rfl)
theorem dX3_write_1 : decode cX3_write 1 = .ok (.getfield 59, 3) := dk_180 0 59 (dk_at dksX3_write_0 1 rfl rfl)
theorem dX3_write_4 : decode cX3_write 4 = .ok (.aload_n 0, 1) := dk_42 (dk_at dksX3_write_0 4 rfl rfl)
theorem dX3_write_5 : decode cX3_write 5 = .ok (.getfield 362, 3) := dk_180 1 106 (dk_at dksX3_write_0 5 rfl rfl)
theorem dX3_write_8 : decode cX3_write 8 = .ok (.iload_n 1, 1) := dk_27 (dk_at dksX3_write_0 8 rfl rfl)
theorem dX3_write_9 : decode cX3_write 9 = .ok (.iastore, 1) := dk_79 (dk_at dksX3_write_0 9 rfl rfl)
theorem dX3_write_10 : decode cX3_write 10 = .ok (.aload_n 0, 1) := dk_42 (dk_at dksX3_write_0 10 rfl rfl)
theorem dX3_write_11 : decode cX3_write 11 = .ok (.dup, 1) := dk_89 (dk_at dksX3_write_0 11 rfl rfl)
theorem dX3_write_12 : decode cX3_write 12 = .ok (.getfield 362, 3) := dk_180 1 106 (dk_at dksX3_write_0 12 rfl rfl)
theorem dX3_write_15 : decode cX3_write 15 = .ok (.iconst 1, 1) := dk_4 (dk_at dksX3_write_0 15 rfl rfl)
theorem dX3_write_16 : decode cX3_write 16 = .ok (.iadd, 1) := dk_96 (dk_at dksX3_write_0 16 rfl rfl)
theorem dX3_write_17 : decode cX3_write 17 = .ok (.putfield 362, 3) := dk_181 1 106 (dk_at dksX3_write_0 17 rfl rfl)
theorem dX3_write_20 : decode cX3_write 20 = .ok (.return_, 1) := dk_177 (dk_at dksX3_write_0 20 rfl rfl)
/-- PackingDuelModel.write(I)V -/
def zb255 (G : zPg) (C : zO) (args : List Value) (Q : zQ) (Y : zY) (σ : zS) : Prop := ∃ (a0 : Nat) (x1 : Int32), args = [.ref a0, .int x1] ∧ (zgR σ (some a0) 4 25 (fun v1 => zgI σ (some a0) 4 26 (fun v7 => zsI σ G.1 0 v1 v7 x1 (fun s20 => zgI s20 (some a0) 4 26 (fun v22 => zput s20 G.1 (some a0) 4 26 (.int (v22 + (1 : Int32))) (fun s28 => Q none s28))))))
set_option maxHeartbeats 4000000 in
theorem wk255 {l : Launch} {g : zG} {d : Nat} {C : zO} (hG : zGk g) (hC : zSound l g d C) {args : List Value} {Q : zQ} {Y : zY} {σ : zS} (hw : zb255 (zpg g) C args Q Y σ) : zMet l g (d + 1) (⟨"PackingDuelModel", "write", "(I)V"⟩, Cond.code ⟨"PackingDuelModel", "write", "(I)V"⟩ prog_28_method_99_code 2 (Option.none : Option FieldType)) args σ Q Y := by
  obtain ⟨a0, x1, rfl, hw⟩ := hw
  refine zof hG (by decide +kernel) [false, false] ⟨rfl, rfl, trivial⟩ (Nat.le_of_ble_eq_true rfl) (ls := [some (va_rf (some a0)), some (.int x1)]) rfl ?_
  intro X hX hR hTb hd1 hd2 hl hg hnm
  subst hl
  subst hg
  have hd : zDep X d := ⟨hd1, hd2⟩
  refine z_aload_n hX dX3_write_0 rfl (i := 0) rfl ?_
  obtain ⟨a2, f3, v1, r4, m5, e6, hw⟩ := hw
  refine z_get hX zc4 (k := 25) dX3_write_1 (Nat.le_of_ble_eq_true rfl) (zlk hX q2494) r4 m5 e6 ?_
  refine z_aload_n hX dX3_write_4 rfl (i := 0) rfl ?_
  obtain ⟨a8, f9, v7, r10, m11, e12, hw⟩ := hw
  refine z_get hX zc4 (k := 26) dX3_write_5 (Nat.le_of_ble_eq_true rfl) (zlk hX q2495) r10 m11 e12 ?_
  refine z_iload_n hX dX3_write_8 rfl (i := 1) rfl ?_
  obtain ⟨a13, n14, f15, r16, g17, m18, i19, hw⟩ := hw
  refine z_iast hX dX3_write_9 r16 g17 m18 i19 (z_nm (fun s20 e21 => ?_))
  have hw := hw s20 e21
  refine z_aload_n hX dX3_write_10 rfl (i := 0) rfl ?_
  refine z_dup hX dX3_write_11 (zc_rf _) ?_
  obtain ⟨a23, f24, v22, r25, m26, e27, hw⟩ := hw
  refine z_get hX zc4 (k := 26) dX3_write_12 (Nat.le_of_ble_eq_true rfl) (zlk hX q2495) r25 m26 e27 ?_
  refine z_iconst hX (v := (1 : Int32)) dX3_write_15 (by decide) ?_
  refine z_iadd hX dX3_write_16 ?_
  obtain ⟨a30, f31, r32, g33, m34, l35, hw⟩ := hw
  refine z_put hX zc4 (k := 26) dX3_write_17 (Nat.le_of_ble_eq_true rfl) (zlk hX q2495) rfl rfl rfl r32 g33 m34 l35 (z_nm (fun s28 e29 => ?_))
  have hw := hw s28 e29
  exact z_return hX hR dX3_write_20 hw
abbrev cX3_writeNumber : ByteArray := prog_28_method_100_code
def yX3_writeNumber : MethodName := ⟨RX3, "writeNumber", "(I)V"⟩
def dkwX3_writeNumber_2 : List UInt8 := [96, 182, 1, 109, 29, 16, 10, 108, 62, 167, 255, 234, 177]
abbrev dktX3_writeNumber_2 : List UInt8 := dkwX3_writeNumber_2 ++ []
def dkwX3_writeNumber_1 : List UInt8 := [164, 0, 11, 29, 16, 10, 104, 62, 167, 255, 243, 29, 158, 0, 24, 42, 16, 48, 28, 29, 108, 16, 10, 112]
abbrev dktX3_writeNumber_1 : List UInt8 := dkwX3_writeNumber_1 ++ dktX3_writeNumber_2
def dkwX3_writeNumber_0 : List UInt8 := [27, 156, 0, 9, 42, 16, 45, 182, 1, 109, 27, 184, 1, 112, 61, 4, 62, 28, 29, 108, 16, 9]
abbrev dktX3_writeNumber_0 : List UInt8 := dkwX3_writeNumber_0 ++ dktX3_writeNumber_1
theorem dksX3_writeNumber_0 : cX3_writeNumber.data.toList.drop 0 = dktX3_writeNumber_0 := by decide +kernel
theorem dksX3_writeNumber_1 : cX3_writeNumber.data.toList.drop 22 = dktX3_writeNumber_1 := dk_seg dksX3_writeNumber_0 22 rfl rfl
theorem dksX3_writeNumber_2 : cX3_writeNumber.data.toList.drop 46 = dktX3_writeNumber_2 := dk_seg dksX3_writeNumber_1 24 rfl rfl
theorem dX3_writeNumber_0 : decode cX3_writeNumber 0 = .ok (.iload_n 1, 1) := dk_27 (dk_at dksX3_writeNumber_0 0 rfl rfl)
theorem dX3_writeNumber_1 : decode cX3_writeNumber 1 = .ok (.ifCond .ge 9, 3) := dk_156 0 9 (dk_at dksX3_writeNumber_0 1 rfl rfl)
theorem dX3_writeNumber_4 : decode cX3_writeNumber 4 = .ok (.aload_n 0, 1) := dk_42 (dk_at dksX3_writeNumber_0 4 rfl rfl)
theorem dX3_writeNumber_5 : decode cX3_writeNumber 5 = .ok (.bipush 45, 2) := dk_16 45 (dk_at dksX3_writeNumber_0 5 rfl rfl)
theorem dX3_writeNumber_7 : decode cX3_writeNumber 7 = .ok (.invokevirtual 365, 3) := dk_182 1 109 (dk_at dksX3_writeNumber_0 7 rfl rfl)
theorem dX3_writeNumber_10 : decode cX3_writeNumber 10 = .ok (.iload_n 1, 1) := dk_27 (dk_at dksX3_writeNumber_0 10 rfl rfl)
theorem dX3_writeNumber_11 : decode cX3_writeNumber 11 = .ok (.invokestatic 368, 3) := dk_184 1 112 (dk_at dksX3_writeNumber_0 11 rfl rfl)
theorem dX3_writeNumber_14 : decode cX3_writeNumber 14 = .ok (.istore_n 2, 1) := dk_61 (dk_at dksX3_writeNumber_0 14 rfl rfl)
theorem dX3_writeNumber_15 : decode cX3_writeNumber 15 = .ok (.iconst 1, 1) := dk_4 (dk_at dksX3_writeNumber_0 15 rfl rfl)
theorem dX3_writeNumber_16 : decode cX3_writeNumber 16 = .ok (.istore_n 3, 1) := dk_62 (dk_at dksX3_writeNumber_0 16 rfl rfl)
theorem dX3_writeNumber_17 : decode cX3_writeNumber 17 = .ok (.iload_n 2, 1) := dk_28 (dk_at dksX3_writeNumber_0 17 rfl rfl)
theorem dX3_writeNumber_18 : decode cX3_writeNumber 18 = .ok (.iload_n 3, 1) := dk_29 (dk_at dksX3_writeNumber_0 18 rfl rfl)
theorem dX3_writeNumber_19 : decode cX3_writeNumber 19 = .ok (.idiv, 1) := dk_108 (dk_at dksX3_writeNumber_0 19 rfl rfl)
theorem dX3_writeNumber_20 : decode cX3_writeNumber 20 = .ok (.bipush 9, 2) := dk_16 9 (dk_at dksX3_writeNumber_0 20 rfl rfl)
theorem dX3_writeNumber_22 : decode cX3_writeNumber 22 = .ok (.if_icmp .le 11, 3) := dk_164 0 11 (dk_at dksX3_writeNumber_1 0 rfl rfl)
theorem dX3_writeNumber_25 : decode cX3_writeNumber 25 = .ok (.iload_n 3, 1) := dk_29 (dk_at dksX3_writeNumber_1 3 rfl rfl)
theorem dX3_writeNumber_26 : decode cX3_writeNumber 26 = .ok (.bipush 10, 2) := dk_16 10 (dk_at dksX3_writeNumber_1 4 rfl rfl)
theorem dX3_writeNumber_28 : decode cX3_writeNumber 28 = .ok (.imul, 1) := dk_104 (dk_at dksX3_writeNumber_1 6 rfl rfl)
theorem dX3_writeNumber_29 : decode cX3_writeNumber 29 = .ok (.istore_n 3, 1) := dk_62 (dk_at dksX3_writeNumber_1 7 rfl rfl)
theorem dX3_writeNumber_30 : decode cX3_writeNumber 30 = .ok (.goto (-13), 3) := dk_167 255 243 (dk_at dksX3_writeNumber_1 8 rfl rfl)
theorem dX3_writeNumber_33 : decode cX3_writeNumber 33 = .ok (.iload_n 3, 1) := dk_29 (dk_at dksX3_writeNumber_1 11 rfl rfl)
theorem dX3_writeNumber_34 : decode cX3_writeNumber 34 = .ok (.ifCond .le 24, 3) := dk_158 0 24 (dk_at dksX3_writeNumber_1 12 rfl rfl)
theorem dX3_writeNumber_37 : decode cX3_writeNumber 37 = .ok (.aload_n 0, 1) := dk_42 (dk_at dksX3_writeNumber_1 15 rfl rfl)
theorem dX3_writeNumber_38 : decode cX3_writeNumber 38 = .ok (.bipush 48, 2) := dk_16 48 (dk_at dksX3_writeNumber_1 16 rfl rfl)
theorem dX3_writeNumber_40 : decode cX3_writeNumber 40 = .ok (.iload_n 2, 1) := dk_28 (dk_at dksX3_writeNumber_1 18 rfl rfl)
theorem dX3_writeNumber_41 : decode cX3_writeNumber 41 = .ok (.iload_n 3, 1) := dk_29 (dk_at dksX3_writeNumber_1 19 rfl rfl)
theorem dX3_writeNumber_42 : decode cX3_writeNumber 42 = .ok (.idiv, 1) := dk_108 (dk_at dksX3_writeNumber_1 20 rfl rfl)
theorem dX3_writeNumber_43 : decode cX3_writeNumber 43 = .ok (.bipush 10, 2) := dk_16 10 (dk_at dksX3_writeNumber_1 21 rfl rfl)
theorem dX3_writeNumber_45 : decode cX3_writeNumber 45 = .ok (.irem, 1) := dk_112 (dk_at dksX3_writeNumber_1 23 rfl rfl)
theorem dX3_writeNumber_46 : decode cX3_writeNumber 46 = .ok (.iadd, 1) := dk_96 (dk_at dksX3_writeNumber_2 0 rfl rfl)
theorem dX3_writeNumber_47 : decode cX3_writeNumber 47 = .ok (.invokevirtual 365, 3) := dk_182 1 109 (dk_at dksX3_writeNumber_2 1 rfl rfl)
theorem dX3_writeNumber_50 : decode cX3_writeNumber 50 = .ok (.iload_n 3, 1) := dk_29 (dk_at dksX3_writeNumber_2 4 rfl rfl)
theorem dX3_writeNumber_51 : decode cX3_writeNumber 51 = .ok (.bipush 10, 2) := dk_16 10 (dk_at dksX3_writeNumber_2 5 rfl rfl)
theorem dX3_writeNumber_53 : decode cX3_writeNumber 53 = .ok (.idiv, 1) := dk_108 (dk_at dksX3_writeNumber_2 7 rfl rfl)
theorem dX3_writeNumber_54 : decode cX3_writeNumber 54 = .ok (.istore_n 3, 1) := dk_62 (dk_at dksX3_writeNumber_2 8 rfl rfl)
theorem dX3_writeNumber_55 : decode cX3_writeNumber 55 = .ok (.goto (-22), 3) := dk_167 255 234 (dk_at dksX3_writeNumber_2 9 rfl rfl)
theorem dX3_writeNumber_58 : decode cX3_writeNumber 58 = .ok (.return_, 1) := dk_177 (dk_at dksX3_writeNumber_2 12 rfl rfl)
/-- PackingDuelModel.writeNumber(I)V -/
def zb256 (G : zPg) (C : zO) (args : List Value) (Q : zQ) (Y : zY) (σ : zS) : Prop := ∃ (a0 : Nat) (x1 : Int32), args = [.ref a0, .int x1] ∧ (zJ (fun  (s1 : zS) => zcl C 298 [.int x1] Y s1 (zqI (fun v3 s4 => ∃ n, zIt (fun _ _ => False) (fun rec8 (p6 : Int32) (s7 : zS) => (¬ p6 = 0 ∧ (((v3 / p6) ≤ (9 : Int32)) → ∃ n, zIt (fun _ _ => False) (fun rec12 (p10 : Int32) (s11 : zS) => ((p10 ≤ 0) → Q none s11) ∧ ((¬ p10 ≤ 0) → (¬ p10 = 0 ∧ (¬ (10 : Int32) = 0 ∧ (∀ v14 : Int32, v14 = ((v3 / p10) - (v3 / p10) / (10 : Int32) * (10 : Int32)) → zrc s11 (some a0) 4 (fun a19 => zcl C 255 [.ref a19, .int ((48 : Int32) + v14)] Y s11 (zqV (fun s17 => (¬ (10 : Int32) = 0 ∧ rec12 (p10 / (10 : Int32)) s17))))))))) n p6 s7) ∧ ((¬ (v3 / p6) ≤ (9 : Int32)) → rec8 (p6 * (10 : Int32)) s7))) n (1 : Int32) s4))) (fun (j2 : zS → Prop) => ((0 ≤ x1) → j2 σ) ∧ ((¬ 0 ≤ x1) → zrc σ (some a0) 4 (fun a29 => zcl C 255 [.ref a29, .int (45 : Int32)] Y σ (zqV (fun s27 => j2 s27))))))
set_option maxHeartbeats 4000000 in
theorem wk256 {l : Launch} {g : zG} {d : Nat} {C : zO} (hG : zGk g) (hC : zSound l g d C) {args : List Value} {Q : zQ} {Y : zY} {σ : zS} (hw : zb256 (zpg g) C args Q Y σ) : zMet l g (d + 1) (⟨"PackingDuelModel", "writeNumber", "(I)V"⟩, Cond.code ⟨"PackingDuelModel", "writeNumber", "(I)V"⟩ prog_28_method_100_code 4 (Option.none : Option FieldType)) args σ Q Y := by
  obtain ⟨a0, x1, rfl, hw⟩ := hw
  refine zof hG (by decide +kernel) [false, false] ⟨rfl, rfl, trivial⟩ (Nat.le_of_ble_eq_true rfl) (ls := [some (va_rf (some a0)), some (.int x1), none, none]) rfl ?_
  intro X hX hR hTb hd1 hd2 hl hg hnm
  subst hl
  subst hg
  have hd : zDep X d := ⟨hd1, hd2⟩
  refine z_iload_n hX dX3_writeNumber_0 rfl (i := 1) rfl ?_
  refine zJ_w (P := fun (j : zS → Prop) => ∀  (s1 : zS), j  s1 → zW X s1 10 [some (va_rf (some a0)), some (.int x1), none, none] []) hw (fun  s1 hw => ?_) (fun j2 hj2 hw => ?_)
  · refine z_iload_n hX dX3_writeNumber_10 rfl (i := 1) rfl ?_
    refine z_invS hX hd dX3_writeNumber_11 (hC 298 _ zm298 _ _ _ _ hw) q2991 q2992 zh8 q2993 q137 zn298 rfl (Nat.le_of_ble_eq_true rfl) (st := []) rfl (zcs8 (Nat.le_of_ble_eq_true rfl)) rfl (zkI (fun v3 s4 hw => ?_)) (zout hX hR hTb)
    refine z_istore_n hX dX3_writeNumber_14 rfl (i := 2) (Nat.le_of_ble_eq_true rfl) rfl (ls2 := [some (va_rf (some a0)), some (.int x1), some (.int v3), none]) rfl ?_
    refine z_iconst hX (v := (1 : Int32)) dX3_writeNumber_15 (by decide) ?_
    refine z_istore_n hX dX3_writeNumber_16 rfl (i := 3) (Nat.le_of_ble_eq_true rfl) rfl (ls2 := [some (va_rf (some a0)), some (.int x1), some (.int v3), some (.int (1 : Int32))]) rfl ?_
    obtain ⟨n24, hw⟩ := hw
    refine z_sub (ls' := [some (va_rf (some a0)), none, some (.int v3), some (.int (1 : Int32))]) (zsS (zsN (zsS (zsS (zs0))))) ?_
    refine zIt_w (P := fun (j : Int32 → zS → Prop) => ∀ (p6 : Int32) (s7 : zS), j p6 s7 → zW X s7 17 [some (va_rf (some a0)), none, some (.int v3), some (.int p6)] []) (fun _ _ h => h.elim) (fun rec8 hrec8 p6 s7 hw => ?_) n24 _ _ hw
    refine z_iload_n hX dX3_writeNumber_17 rfl (i := 2) rfl ?_
    refine z_iload_n hX dX3_writeNumber_18 rfl (i := 3) rfl ?_
    refine z_idiv hX dX3_writeNumber_19 hw.1 ?_
    have hw := hw.2
    refine z_bipush hX (v := (9 : Int32)) dX3_writeNumber_20 (by decide) ?_
    refine z_icmp_le hX dX3_writeNumber_22 (tgt := 33) rfl (fun c9 => ?_) (fun c9 => ?_)
    · have hw := hw.1 c9
      obtain ⟨n23, hw⟩ := hw
      refine zIt_w (P := fun (j : Int32 → zS → Prop) => ∀ (p10 : Int32) (s11 : zS), j p10 s11 → zW X s11 33 [some (va_rf (some a0)), none, some (.int v3), some (.int p10)] []) (fun _ _ h => h.elim) (fun rec12 hrec12 p10 s11 hw => ?_) n23 _ _ hw
      refine z_iload_n hX dX3_writeNumber_33 rfl (i := 3) rfl ?_
      refine z_if_le hX dX3_writeNumber_34 (tgt := 58) rfl (fun c13 => ?_) (fun c13 => ?_)
      · have hw := hw.1 c13
        exact z_return hX hR dX3_writeNumber_58 hw
      · have hw := hw.2 c13
        refine z_aload_n hX dX3_writeNumber_37 rfl (i := 0) rfl ?_
        refine z_bipush hX (v := (48 : Int32)) dX3_writeNumber_38 (by decide) ?_
        refine z_iload_n hX dX3_writeNumber_40 rfl (i := 2) rfl ?_
        refine z_iload_n hX dX3_writeNumber_41 rfl (i := 3) rfl ?_
        refine z_idiv hX dX3_writeNumber_42 hw.1 ?_
        have hw := hw.2
        refine z_bipush hX (v := (10 : Int32)) dX3_writeNumber_43 (by decide) ?_
        refine z_irem hX dX3_writeNumber_45 hw.1 ?_
        have hw := hw.2
        refine z_topi (fun v14 e15 => ?_)
        have hw := hw v14 e15
        refine z_iadd hX dX3_writeNumber_46 ?_
        obtain ⟨a19, f20, r21, m22, hw⟩ := hw
        refine z_invV hX hd r21 (ci := 4) rfl rfl m22 dX3_writeNumber_47 (hC 255 _ zm255 _ _ _ _ hw) q2983 q2985 qs99 zh7 q2986 q136 zn255 rfl (Nat.le_of_ble_eq_true rfl) (st := []) rfl (zcs8 (Nat.le_of_ble_eq_true rfl)) rfl (zkV (fun s17 hw => ?_)) (zout hX hR hTb)
        refine z_iload_n hX dX3_writeNumber_50 rfl (i := 3) rfl ?_
        refine z_bipush hX (v := (10 : Int32)) dX3_writeNumber_51 (by decide) ?_
        refine z_idiv hX dX3_writeNumber_53 hw.1 ?_
        have hw := hw.2
        refine z_istore_n hX dX3_writeNumber_54 rfl (i := 3) (Nat.le_of_ble_eq_true rfl) rfl (ls2 := [some (va_rf (some a0)), none, some (.int v3), some (.int (p10 / (10 : Int32)))]) rfl ?_
        refine z_goto hX dX3_writeNumber_55 (tgt := 33) rfl ?_
        exact hrec12 _ _ hw
    · have hw := hw.2 c9
      refine z_iload_n hX dX3_writeNumber_25 rfl (i := 3) rfl ?_
      refine z_bipush hX (v := (10 : Int32)) dX3_writeNumber_26 (by decide) ?_
      refine z_imul hX dX3_writeNumber_28 ?_
      refine z_istore_n hX dX3_writeNumber_29 rfl (i := 3) (Nat.le_of_ble_eq_true rfl) rfl (ls2 := [some (va_rf (some a0)), none, some (.int v3), some (.int (p6 * (10 : Int32)))]) rfl ?_
      refine z_goto hX dX3_writeNumber_30 (tgt := 17) rfl ?_
      exact hrec8 _ _ hw
  · refine z_if_ge hX dX3_writeNumber_1 (tgt := 10) rfl (fun c25 => ?_) (fun c25 => ?_)
    · have hw := hw.1 c25
      exact hj2  _ hw
    · have hw := hw.2 c25
      refine z_aload_n hX dX3_writeNumber_4 rfl (i := 0) rfl ?_
      refine z_bipush hX (v := (45 : Int32)) dX3_writeNumber_5 (by decide) ?_
      obtain ⟨a29, f30, r31, m32, hw⟩ := hw
      refine z_invV hX hd r31 (ci := 4) rfl rfl m32 dX3_writeNumber_7 (hC 255 _ zm255 _ _ _ _ hw) q2983 q2985 qs99 zh7 q2986 q136 zn255 rfl (Nat.le_of_ble_eq_true rfl) (st := []) rfl (zcs8 (Nat.le_of_ble_eq_true rfl)) rfl (zkV (fun s27 hw => ?_)) (zout hX hR hTb)
      exact hj2  _ hw
abbrev cX3_formattedByte : ByteArray := prog_28_method_102_code
def yX3_formattedByte : MethodName := ⟨RX3, "formattedByte", "(I)I"⟩
def dkwX3_formattedByte_1 : List UInt8 := [46, 167, 0, 4, 2, 172]
abbrev dktX3_formattedByte_1 : List UInt8 := dkwX3_formattedByte_1 ++ []
def dkwX3_formattedByte_0 : List UInt8 := [42, 3, 181, 0, 103, 27, 3, 42, 180, 1, 106, 4, 100, 184, 0, 109, 153, 0, 12, 42, 180, 0, 59, 27]
abbrev dktX3_formattedByte_0 : List UInt8 := dkwX3_formattedByte_0 ++ dktX3_formattedByte_1
theorem dksX3_formattedByte_0 : cX3_formattedByte.data.toList.drop 0 = dktX3_formattedByte_0 := by decide +kernel
theorem dksX3_formattedByte_1 : cX3_formattedByte.data.toList.drop 24 = dktX3_formattedByte_1 := dk_seg dksX3_formattedByte_0 24 rfl rfl
theorem dX3_formattedByte_0 : decode cX3_formattedByte 0 = .ok (.aload_n 0, 1) := dk_42 (dk_at dksX3_formattedByte_0 0 rfl rfl)
theorem dX3_formattedByte_1 : decode cX3_formattedByte 1 = .ok (.iconst 0, 1) := dk_3 (dk_at dksX3_formattedByte_0 1 rfl rfl)
theorem dX3_formattedByte_2 : decode cX3_formattedByte 2 = .ok (.putfield 103, 3) := dk_181 0 103 (dk_at dksX3_formattedByte_0 2 rfl rfl)
theorem dX3_formattedByte_5 : decode cX3_formattedByte 5 = .ok (.iload_n 1, 1) := dk_27 (dk_at dksX3_formattedByte_0 5 rfl rfl)
theorem dX3_formattedByte_6 : decode cX3_formattedByte 6 = .ok (.iconst 0, 1) := dk_3 (dk_at dksX3_formattedByte_0 6 rfl rfl)
theorem dX3_formattedByte_7 : decode cX3_formattedByte 7 = .ok (.aload_n 0, 1) := dk_42 (dk_at dksX3_formattedByte_0 7 rfl rfl)
theorem dX3_formattedByte_8 : decode cX3_formattedByte 8 = .ok (.getfield 362, 3) := dk_180 1 106 (dk_at dksX3_formattedByte_0 8 rfl rfl)
theorem dX3_formattedByte_11 : decode cX3_formattedByte 11 = .ok (.iconst 1, 1) := dk_4 (dk_at dksX3_formattedByte_0 11 rfl rfl)
theorem dX3_formattedByte_12 : decode cX3_formattedByte 12 = .ok (.isub, 1) := dk_100 (dk_at dksX3_formattedByte_0 12 rfl rfl)
theorem dX3_formattedByte_13 : decode cX3_formattedByte 13 = .ok (.invokestatic 109, 3) := dk_184 0 109 (dk_at dksX3_formattedByte_0 13 rfl rfl)
theorem dX3_formattedByte_16 : decode cX3_formattedByte 16 = .ok (.ifCond .eq 12, 3) := dk_153 0 12 (dk_at dksX3_formattedByte_0 16 rfl rfl)
theorem dX3_formattedByte_19 : decode cX3_formattedByte 19 = .ok (.aload_n 0, 1) := dk_42 (dk_at dksX3_formattedByte_0 19 rfl rfl)
theorem dX3_formattedByte_20 : decode cX3_formattedByte 20 = .ok (.getfield 59, 3) := dk_180 0 59 (dk_at dksX3_formattedByte_0 20 rfl rfl)
theorem dX3_formattedByte_23 : decode cX3_formattedByte 23 = .ok (.iload_n 1, 1) := dk_27 (dk_at dksX3_formattedByte_0 23 rfl rfl)
theorem dX3_formattedByte_24 : decode cX3_formattedByte 24 = .ok (.iaload, 1) := dk_46 (dk_at dksX3_formattedByte_1 0 rfl rfl)
theorem dX3_formattedByte_25 : decode cX3_formattedByte 25 = .ok (.goto 4, 3) := dk_167 0 4 (dk_at dksX3_formattedByte_1 1 rfl rfl)
theorem dX3_formattedByte_28 : decode cX3_formattedByte 28 = .ok (.iconst (-1), 1) := dk_2 (dk_at dksX3_formattedByte_1 4 rfl rfl)
theorem dX3_formattedByte_29 : decode cX3_formattedByte 29 = .ok (.ireturn, 1) := dk_172 (dk_at dksX3_formattedByte_1 5 rfl rfl)
/-- PackingDuelModel.formattedByte(I)I -/
def zb257 (G : zPg) (C : zO) (args : List Value) (Q : zQ) (Y : zY) (σ : zS) : Prop := ∃ (a0 : Nat) (x1 : Int32), args = [.ref a0, .int x1] ∧ (zput σ G.1 (some a0) 4 5 (.int (0 : Int32)) (fun s1 => zgI s1 (some a0) 4 26 (fun v9 => zcl C 166 [.int x1, .int (0 : Int32), .int (v9 - (1 : Int32))] Y s1 (zqI (fun v15 s16 => zJ (fun (p18 : Int32) (s19 : zS) => Q (some (.int p18)) s19) (fun (j20 : Int32 → zS → Prop) => ((v15 = 0) → j20 (-1 : Int32) s16) ∧ ((¬ v15 = 0) → zgR s16 (some a0) 4 25 (fun v22 => zaI s16 0 v22 x1 (fun v34 => j20 v34 s16)))))))))
set_option maxHeartbeats 4000000 in
theorem wk257 {l : Launch} {g : zG} {d : Nat} {C : zO} (hG : zGk g) (hC : zSound l g d C) {args : List Value} {Q : zQ} {Y : zY} {σ : zS} (hw : zb257 (zpg g) C args Q Y σ) : zMet l g (d + 1) (⟨"PackingDuelModel", "formattedByte", "(I)I"⟩, Cond.code ⟨"PackingDuelModel", "formattedByte", "(I)I"⟩ prog_28_method_102_code 2 (Option.some FieldType.int)) args σ Q Y := by
  obtain ⟨a0, x1, rfl, hw⟩ := hw
  refine zof hG (by decide +kernel) [false, false] ⟨rfl, rfl, trivial⟩ (Nat.le_of_ble_eq_true rfl) (ls := [some (va_rf (some a0)), some (.int x1)]) rfl ?_
  intro X hX hR hTb hd1 hd2 hl hg hnm
  subst hl
  subst hg
  have hd : zDep X d := ⟨hd1, hd2⟩
  refine z_aload_n hX dX3_formattedByte_0 rfl (i := 0) rfl ?_
  refine z_iconst hX (v := (0 : Int32)) dX3_formattedByte_1 (by decide) ?_
  obtain ⟨a3, f4, r5, g6, m7, l8, hw⟩ := hw
  refine z_put hX zc4 (k := 5) dX3_formattedByte_2 (Nat.le_of_ble_eq_true rfl) (zlk hX q2474) rfl rfl rfl r5 g6 m7 l8 (z_nm (fun s1 e2 => ?_))
  have hw := hw s1 e2
  refine z_iload_n hX dX3_formattedByte_5 rfl (i := 1) rfl ?_
  refine z_iconst hX (v := (0 : Int32)) dX3_formattedByte_6 (by decide) ?_
  refine z_aload_n hX dX3_formattedByte_7 rfl (i := 0) rfl ?_
  obtain ⟨a10, f11, v9, r12, m13, e14, hw⟩ := hw
  refine z_get hX zc4 (k := 26) dX3_formattedByte_8 (Nat.le_of_ble_eq_true rfl) (zlk hX q2495) r12 m13 e14 ?_
  refine z_iconst hX (v := (1 : Int32)) dX3_formattedByte_11 (by decide) ?_
  refine z_isub hX dX3_formattedByte_12 ?_
  refine z_invS hX hd dX3_formattedByte_13 (hC 166 _ zm166 _ _ _ _ hw) q2632 q2633 zh7 q2634 q136 zn166 rfl (Nat.le_of_ble_eq_true rfl) (st := []) rfl (zcs8 (Nat.le_of_ble_eq_true rfl)) rfl (zkI (fun v15 s16 hw => ?_)) (zout hX hR hTb)
  refine zJ_w (P := fun (j : Int32 → zS → Prop) => ∀ (p18 : Int32) (s19 : zS), j p18 s19 → zW X s19 29 [none, none] [.int p18]) hw (fun p18 s19 hw => ?_) (fun j20 hj20 hw => ?_)
  · exact z_ireturn hX hR dX3_formattedByte_29 rfl hw
  · refine z_if_eq hX dX3_formattedByte_16 (tgt := 28) rfl (fun c21 => ?_) (fun c21 => ?_)
    · have hw := hw.1 c21
      refine z_iconst hX (v := (-1 : Int32)) dX3_formattedByte_28 (by decide) ?_
      refine z_sub (ls' := [none, none]) (zsN (zsN (zs0))) ?_
      exact hj20 _ _ hw
    · have hw := hw.2 c21
      refine z_aload_n hX dX3_formattedByte_19 rfl (i := 0) rfl ?_
      obtain ⟨a23, f24, v22, r25, m26, e27, hw⟩ := hw
      refine z_get hX zc4 (k := 25) dX3_formattedByte_20 (Nat.le_of_ble_eq_true rfl) (zlk hX q2494) r25 m26 e27 ?_
      refine z_iload_n hX dX3_formattedByte_23 rfl (i := 1) rfl ?_
      obtain ⟨a28, n29, f30, r31, m32, i33, hw⟩ := hw
      refine z_iald hX dX3_formattedByte_24 r31 m32 i33 ?_
      revert hw
      generalize f30 (Int32.toNatClampNeg x1) = v34
      intro hw
      refine z_goto hX dX3_formattedByte_25 (tgt := 29) rfl ?_
      refine z_sub (ls' := [none, none]) (zsN (zsN (zs0))) ?_
      exact hj20 _ _ hw
abbrev cX3_undoCount : ByteArray := prog_28_method_105_code
def yX3_undoCount : MethodName := ⟨RX3, "undoCount", "()I"⟩
def dkwX3_undoCount_0 : List UInt8 := [42, 3, 181, 0, 103, 42, 180, 1, 117, 172]
abbrev dktX3_undoCount_0 : List UInt8 := dkwX3_undoCount_0 ++ []
theorem dksX3_undoCount_0 : cX3_undoCount.data.toList.drop 0 = dktX3_undoCount_0 := by decide +kernel
theorem dX3_undoCount_0 : decode cX3_undoCount 0 = .ok (.aload_n 0, 1) := dk_42 (dk_at dksX3_undoCount_0 0 rfl rfl)
theorem dX3_undoCount_1 : decode cX3_undoCount 1 = .ok (.iconst 0, 1) := dk_3 (dk_at dksX3_undoCount_0 1 rfl rfl)
theorem dX3_undoCount_2 : decode cX3_undoCount 2 = .ok (.putfield 103, 3) := dk_181 0 103 (dk_at dksX3_undoCount_0 2 rfl rfl)
theorem dX3_undoCount_5 : decode cX3_undoCount 5 = .ok (.aload_n 0, 1) := dk_42 (dk_at dksX3_undoCount_0 5 rfl rfl)
theorem dX3_undoCount_6 : decode cX3_undoCount 6 = .ok (.getfield 373, 3) := dk_180 1 117 (dk_at dksX3_undoCount_0 6 rfl rfl)
theorem dX3_undoCount_9 : decode cX3_undoCount 9 = .ok (.ireturn, 1) := dk_172 (dk_at dksX3_undoCount_0 9 rfl rfl)
/-- PackingDuelModel.undoCount()I -/
def zb258 (G : zPg) (C : zO) (args : List Value) (Q : zQ) (Y : zY) (σ : zS) : Prop := ∃ (a0 : Nat), args = [.ref a0] ∧ (zput σ G.1 (some a0) 4 5 (.int (0 : Int32)) (fun s1 => zgI s1 (some a0) 4 4 (fun v9 => Q (some (.int v9)) s1)))
set_option maxHeartbeats 4000000 in
theorem wk258 {l : Launch} {g : zG} {d : Nat} {C : zO} (hG : zGk g) (hC : zSound l g d C) {args : List Value} {Q : zQ} {Y : zY} {σ : zS} (hw : zb258 (zpg g) C args Q Y σ) : zMet l g (d + 1) (⟨"PackingDuelModel", "undoCount", "()I"⟩, Cond.code ⟨"PackingDuelModel", "undoCount", "()I"⟩ prog_28_method_105_code 1 (Option.some FieldType.int)) args σ Q Y := by
  obtain ⟨a0, rfl, hw⟩ := hw
  refine zof hG (by decide +kernel) [false] ⟨rfl, trivial⟩ (Nat.le_of_ble_eq_true rfl) (ls := [some (va_rf (some a0))]) rfl ?_
  intro X hX hR hTb hd1 hd2 hl hg hnm
  subst hl
  subst hg
  have hd : zDep X d := ⟨hd1, hd2⟩
  refine z_aload_n hX dX3_undoCount_0 rfl (i := 0) rfl ?_
  refine z_iconst hX (v := (0 : Int32)) dX3_undoCount_1 (by decide) ?_
  obtain ⟨a3, f4, r5, g6, m7, l8, hw⟩ := hw
  refine z_put hX zc4 (k := 5) dX3_undoCount_2 (Nat.le_of_ble_eq_true rfl) (zlk hX q2474) rfl rfl rfl r5 g6 m7 l8 (z_nm (fun s1 e2 => ?_))
  have hw := hw s1 e2
  refine z_aload_n hX dX3_undoCount_5 rfl (i := 0) rfl ?_
  obtain ⟨a10, f11, v9, r12, m13, e14, hw⟩ := hw
  refine z_get hX zc4 (k := 4) dX3_undoCount_6 (Nat.le_of_ble_eq_true rfl) (zlk hX q2473) r12 m13 e14 ?_
  exact z_ireturn hX hR dX3_undoCount_9 rfl hw
abbrev cX3_undo : ByteArray := prog_28_method_106_code
def yX3_undo : MethodName := ⟨RX3, "undo", "()I"⟩
def dkwX3_undo_1 : List UInt8 := [42, 180, 0, 19, 42, 180, 1, 117, 42, 180, 0, 9, 3, 184, 1, 120, 42, 180, 1, 117, 172]
abbrev dktX3_undo_1 : List UInt8 := dkwX3_undo_1 ++ []
def dkwX3_undo_0 : List UInt8 := [42, 3, 181, 0, 103, 42, 180, 1, 117, 154, 0, 5, 2, 172, 42, 89, 180, 1, 117, 4, 100, 181, 1, 117]
abbrev dktX3_undo_0 : List UInt8 := dkwX3_undo_0 ++ dktX3_undo_1
theorem dksX3_undo_0 : cX3_undo.data.toList.drop 0 = dktX3_undo_0 := by decide +kernel
theorem dksX3_undo_1 : cX3_undo.data.toList.drop 24 = dktX3_undo_1 := dk_seg dksX3_undo_0 24 rfl rfl
theorem dX3_undo_0 : decode cX3_undo 0 = .ok (.aload_n 0, 1) := dk_42 (dk_at dksX3_undo_0 0 rfl rfl)
theorem dX3_undo_1 : decode cX3_undo 1 = .ok (.iconst 0, 1) := dk_3 (dk_at dksX3_undo_0 1 rfl rfl)
theorem dX3_undo_2 : decode cX3_undo 2 = .ok (.putfield 103, 3) := dk_181 0 103 (dk_at dksX3_undo_0 2 rfl rfl)
theorem dX3_undo_5 : decode cX3_undo 5 = .ok (.aload_n 0, 1) := dk_42 (dk_at dksX3_undo_0 5 rfl rfl)
theorem dX3_undo_6 : decode cX3_undo 6 = .ok (.getfield 373, 3) := dk_180 1 117 (dk_at dksX3_undo_0 6 rfl rfl)
theorem dX3_undo_9 : decode cX3_undo 9 = .ok (.ifCond .ne 5, 3) := dk_154 0 5 (dk_at dksX3_undo_0 9 rfl rfl)
theorem dX3_undo_12 : decode cX3_undo 12 = .ok (.iconst (-1), 1) := dk_2 (dk_at dksX3_undo_0 12 rfl rfl)
theorem dX3_undo_13 : decode cX3_undo 13 = .ok (.ireturn, 1) := dk_172 (dk_at dksX3_undo_0 13 rfl rfl)
theorem dX3_undo_14 : decode cX3_undo 14 = .ok (.aload_n 0, 1) := dk_42 (dk_at dksX3_undo_0 14 rfl rfl)
theorem dX3_undo_15 : decode cX3_undo 15 = .ok (.dup, 1) := dk_89 (dk_at dksX3_undo_0 15 rfl rfl)
theorem dX3_undo_16 : decode cX3_undo 16 = .ok (.getfield 373, 3) := dk_180 1 117 (dk_at dksX3_undo_0 16 rfl rfl)
theorem dX3_undo_19 : decode cX3_undo 19 = .ok (.iconst 1, 1) := dk_4 (dk_at dksX3_undo_0 19 rfl rfl)
theorem dX3_undo_20 : decode cX3_undo 20 = .ok (.isub, 1) := dk_100 (dk_at dksX3_undo_0 20 rfl rfl)
theorem dX3_undo_21 : decode cX3_undo 21 = .ok (.putfield 373, 3) := dk_181 1 117 (dk_at dksX3_undo_0 21 rfl rfl)
theorem dX3_undo_24 : decode cX3_undo 24 = .ok (.aload_n 0, 1) := dk_42 (dk_at dksX3_undo_1 0 rfl rfl)
theorem dX3_undo_25 : decode cX3_undo 25 = .ok (.getfield 19, 3) := dk_180 0 19 (dk_at dksX3_undo_1 1 rfl rfl)
theorem dX3_undo_28 : decode cX3_undo 28 = .ok (.aload_n 0, 1) := dk_42 (dk_at dksX3_undo_1 4 rfl rfl)
theorem dX3_undo_29 : decode cX3_undo 29 = .ok (.getfield 373, 3) := dk_180 1 117 (dk_at dksX3_undo_1 5 rfl rfl)
theorem dX3_undo_32 : decode cX3_undo 32 = .ok (.aload_n 0, 1) := dk_42 (dk_at dksX3_undo_1 8 rfl rfl)
theorem dX3_undo_33 : decode cX3_undo 33 = .ok (.getfield 9, 3) := dk_180 0 9 (dk_at dksX3_undo_1 9 rfl rfl)
theorem dX3_undo_36 : decode cX3_undo 36 = .ok (.iconst 0, 1) := dk_3 (dk_at dksX3_undo_1 12 rfl rfl)
theorem dX3_undo_37 : decode cX3_undo 37 = .ok (.invokestatic 376, 3) := dk_184 1 120 (dk_at dksX3_undo_1 13 rfl rfl)
theorem dX3_undo_40 : decode cX3_undo 40 = .ok (.aload_n 0, 1) := dk_42 (dk_at dksX3_undo_1 16 rfl rfl)
theorem dX3_undo_41 : decode cX3_undo 41 = .ok (.getfield 373, 3) := dk_180 1 117 (dk_at dksX3_undo_1 17 rfl rfl)
theorem dX3_undo_44 : decode cX3_undo 44 = .ok (.ireturn, 1) := dk_172 (dk_at dksX3_undo_1 20 rfl rfl)
/-- PackingDuelModel.undo()I -/
def zb259 (G : zPg) (C : zO) (args : List Value) (Q : zQ) (Y : zY) (σ : zS) : Prop := ∃ (a0 : Nat), args = [.ref a0] ∧ (zput σ G.1 (some a0) 4 5 (.int (0 : Int32)) (fun s1 => zgI s1 (some a0) 4 4 (fun v9 => ((¬ v9 = 0) → zgI s1 (some a0) 4 4 (fun v16 => zput s1 G.1 (some a0) 4 4 (.int (v16 - (1 : Int32))) (fun s22 => zgR s22 (some a0) 4 3 (fun v30 => zgI s22 (some a0) 4 4 (fun v36 => zgR s22 (some a0) 4 0 (fun v42 => zcl C 238 [va_rf v30, .int v36, va_rf v42, .int (0 : Int32)] Y s22 (zqV (fun s49 => zgI s49 (some a0) 4 4 (fun v51 => Q (some (.int v51)) s49))))))))) ∧ ((v9 = 0) → Q (some (.int (-1 : Int32))) s1))))
set_option maxHeartbeats 4000000 in
theorem wk259 {l : Launch} {g : zG} {d : Nat} {C : zO} (hG : zGk g) (hC : zSound l g d C) {args : List Value} {Q : zQ} {Y : zY} {σ : zS} (hw : zb259 (zpg g) C args Q Y σ) : zMet l g (d + 1) (⟨"PackingDuelModel", "undo", "()I"⟩, Cond.code ⟨"PackingDuelModel", "undo", "()I"⟩ prog_28_method_106_code 1 (Option.some FieldType.int)) args σ Q Y := by
  obtain ⟨a0, rfl, hw⟩ := hw
  refine zof hG (by decide +kernel) [false] ⟨rfl, trivial⟩ (Nat.le_of_ble_eq_true rfl) (ls := [some (va_rf (some a0))]) rfl ?_
  intro X hX hR hTb hd1 hd2 hl hg hnm
  subst hl
  subst hg
  have hd : zDep X d := ⟨hd1, hd2⟩
  refine z_aload_n hX dX3_undo_0 rfl (i := 0) rfl ?_
  refine z_iconst hX (v := (0 : Int32)) dX3_undo_1 (by decide) ?_
  obtain ⟨a3, f4, r5, g6, m7, l8, hw⟩ := hw
  refine z_put hX zc4 (k := 5) dX3_undo_2 (Nat.le_of_ble_eq_true rfl) (zlk hX q2474) rfl rfl rfl r5 g6 m7 l8 (z_nm (fun s1 e2 => ?_))
  have hw := hw s1 e2
  refine z_aload_n hX dX3_undo_5 rfl (i := 0) rfl ?_
  obtain ⟨a10, f11, v9, r12, m13, e14, hw⟩ := hw
  refine z_get hX zc4 (k := 4) dX3_undo_6 (Nat.le_of_ble_eq_true rfl) (zlk hX q2473) r12 m13 e14 ?_
  refine z_if_ne hX dX3_undo_9 (tgt := 14) rfl (fun c15 => ?_) (fun c15 => ?_)
  · have hw := hw.1 c15
    refine z_aload_n hX dX3_undo_14 rfl (i := 0) rfl ?_
    refine z_dup hX dX3_undo_15 (zc_rf _) ?_
    obtain ⟨a17, f18, v16, r19, m20, e21, hw⟩ := hw
    refine z_get hX zc4 (k := 4) dX3_undo_16 (Nat.le_of_ble_eq_true rfl) (zlk hX q2473) r19 m20 e21 ?_
    refine z_iconst hX (v := (1 : Int32)) dX3_undo_19 (by decide) ?_
    refine z_isub hX dX3_undo_20 ?_
    obtain ⟨a24, f25, r26, g27, m28, l29, hw⟩ := hw
    refine z_put hX zc4 (k := 4) dX3_undo_21 (Nat.le_of_ble_eq_true rfl) (zlk hX q2473) rfl rfl rfl r26 g27 m28 l29 (z_nm (fun s22 e23 => ?_))
    have hw := hw s22 e23
    refine z_aload_n hX dX3_undo_24 rfl (i := 0) rfl ?_
    obtain ⟨a31, f32, v30, r33, m34, e35, hw⟩ := hw
    refine z_get hX zc4 (k := 3) dX3_undo_25 (Nat.le_of_ble_eq_true rfl) (zlk hX q2472) r33 m34 e35 ?_
    refine z_aload_n hX dX3_undo_28 rfl (i := 0) rfl ?_
    obtain ⟨a37, f38, v36, r39, m40, e41, hw⟩ := hw
    refine z_get hX zc4 (k := 4) dX3_undo_29 (Nat.le_of_ble_eq_true rfl) (zlk hX q2473) r39 m40 e41 ?_
    refine z_aload_n hX dX3_undo_32 rfl (i := 0) rfl ?_
    obtain ⟨a43, f44, v42, r45, m46, e47, hw⟩ := hw
    refine z_get hX zc4 (k := 0) dX3_undo_33 (Nat.le_of_ble_eq_true rfl) (zlk hX q2469) r45 m46 e47 ?_
    refine z_iconst hX (v := (0 : Int32)) dX3_undo_36 (by decide) ?_
    refine z_invS hX hd dX3_undo_37 (hC 238 _ zm238 _ _ _ _ hw) q2915 q2916 zh7 q2917 q136 zn238 rfl (Nat.le_of_ble_eq_true rfl) (st := []) rfl (zcs8 (Nat.le_of_ble_eq_true rfl)) rfl (zkV (fun s49 hw => ?_)) (zout hX hR hTb)
    refine z_aload_n hX dX3_undo_40 rfl (i := 0) rfl ?_
    obtain ⟨a52, f53, v51, r54, m55, e56, hw⟩ := hw
    refine z_get hX zc4 (k := 4) dX3_undo_41 (Nat.le_of_ble_eq_true rfl) (zlk hX q2473) r54 m55 e56 ?_
    exact z_ireturn hX hR dX3_undo_44 rfl hw
  · have hw := hw.2 c15
    refine z_iconst hX (v := (-1 : Int32)) dX3_undo_12 (by decide) ?_
    exact z_ireturn hX hR dX3_undo_13 rfl hw
abbrev cX3_saveSnapshot : ByteArray := prog_28_method_107_code
def yX3_saveSnapshot : MethodName := ⟨RX3, "saveSnapshot", "()V"⟩
def dkwX3_saveSnapshot_0 : List UInt8 := [42, 3, 181, 0, 103, 42, 180, 0, 9, 3, 42, 180, 0, 16, 3, 184, 1, 120, 42, 4, 181, 1, 124, 177]
abbrev dktX3_saveSnapshot_0 : List UInt8 := dkwX3_saveSnapshot_0 ++ []
theorem dksX3_saveSnapshot_0 : cX3_saveSnapshot.data.toList.drop 0 = dktX3_saveSnapshot_0 := by decide +kernel
theorem dX3_saveSnapshot_0 : decode cX3_saveSnapshot 0 = .ok (.aload_n 0, 1) := dk_42 (dk_at dksX3_saveSnapshot_0 0 rfl rfl)
theorem dX3_saveSnapshot_1 : decode cX3_saveSnapshot 1 = .ok (.iconst 0, 1) := dk_3 (dk_at dksX3_saveSnapshot_0 1 rfl rfl)
theorem dX3_saveSnapshot_2 : decode cX3_saveSnapshot 2 = .ok (.putfield 103, 3) := dk_181 0 103 (dk_at dksX3_saveSnapshot_0 2 rfl rfl)
theorem dX3_saveSnapshot_5 : decode cX3_saveSnapshot 5 = .ok (.aload_n 0, 1) := dk_42 (dk_at dksX3_saveSnapshot_0 5 rfl rfl)
theorem dX3_saveSnapshot_6 : decode cX3_saveSnapshot 6 = .ok (.getfield 9, 3) := dk_180 0 9 (dk_at dksX3_saveSnapshot_0 6 rfl rfl)
theorem dX3_saveSnapshot_9 : decode cX3_saveSnapshot 9 = .ok (.iconst 0, 1) := dk_3 (dk_at dksX3_saveSnapshot_0 9 rfl rfl)
theorem dX3_saveSnapshot_10 : decode cX3_saveSnapshot 10 = .ok (.aload_n 0, 1) := dk_42 (dk_at dksX3_saveSnapshot_0 10 rfl rfl)
theorem dX3_saveSnapshot_11 : decode cX3_saveSnapshot 11 = .ok (.getfield 16, 3) := dk_180 0 16 (dk_at dksX3_saveSnapshot_0 11 rfl rfl)
theorem dX3_saveSnapshot_14 : decode cX3_saveSnapshot 14 = .ok (.iconst 0, 1) := dk_3 (dk_at dksX3_saveSnapshot_0 14 rfl rfl)
theorem dX3_saveSnapshot_15 : decode cX3_saveSnapshot 15 = .ok (.invokestatic 376, 3) := dk_184 1 120 (dk_at dksX3_saveSnapshot_0 15 rfl rfl)
theorem dX3_saveSnapshot_18 : decode cX3_saveSnapshot 18 = .ok (.aload_n 0, 1) := dk_42 (dk_at dksX3_saveSnapshot_0 18 rfl rfl)
theorem dX3_saveSnapshot_19 : decode cX3_saveSnapshot 19 = .ok (.iconst 1, 1) := dk_4 (dk_at dksX3_saveSnapshot_0 19 rfl rfl)
theorem dX3_saveSnapshot_20 : decode cX3_saveSnapshot 20 = .ok (.putfield 380, 3) := dk_181 1 124 (dk_at dksX3_saveSnapshot_0 20 rfl rfl)
theorem dX3_saveSnapshot_23 : decode cX3_saveSnapshot 23 = .ok (.return_, 1) := dk_177 (dk_at dksX3_saveSnapshot_0 23 rfl rfl)
/-- PackingDuelModel.saveSnapshot()V -/
def zb260 (G : zPg) (C : zO) (args : List Value) (Q : zQ) (Y : zY) (σ : zS) : Prop := ∃ (a0 : Nat), args = [.ref a0] ∧ (zput σ G.1 (some a0) 4 5 (.int (0 : Int32)) (fun s1 => zgR s1 (some a0) 4 0 (fun v9 => zgR s1 (some a0) 4 2 (fun v15 => zcl C 238 [va_rf v9, .int (0 : Int32), va_rf v15, .int (0 : Int32)] Y s1 (zqV (fun s22 => (zbool (1 : Int32) ∧ zput s22 G.1 (some a0) 4 6 (.int (1 : Int32)) (fun s24 => Q none s24))))))))
set_option maxHeartbeats 4000000 in
theorem wk260 {l : Launch} {g : zG} {d : Nat} {C : zO} (hG : zGk g) (hC : zSound l g d C) {args : List Value} {Q : zQ} {Y : zY} {σ : zS} (hw : zb260 (zpg g) C args Q Y σ) : zMet l g (d + 1) (⟨"PackingDuelModel", "saveSnapshot", "()V"⟩, Cond.code ⟨"PackingDuelModel", "saveSnapshot", "()V"⟩ prog_28_method_107_code 1 (Option.none : Option FieldType)) args σ Q Y := by
  obtain ⟨a0, rfl, hw⟩ := hw
  refine zof hG (by decide +kernel) [false] ⟨rfl, trivial⟩ (Nat.le_of_ble_eq_true rfl) (ls := [some (va_rf (some a0))]) rfl ?_
  intro X hX hR hTb hd1 hd2 hl hg hnm
  subst hl
  subst hg
  have hd : zDep X d := ⟨hd1, hd2⟩
  refine z_aload_n hX dX3_saveSnapshot_0 rfl (i := 0) rfl ?_
  refine z_iconst hX (v := (0 : Int32)) dX3_saveSnapshot_1 (by decide) ?_
  obtain ⟨a3, f4, r5, g6, m7, l8, hw⟩ := hw
  refine z_put hX zc4 (k := 5) dX3_saveSnapshot_2 (Nat.le_of_ble_eq_true rfl) (zlk hX q2474) rfl rfl rfl r5 g6 m7 l8 (z_nm (fun s1 e2 => ?_))
  have hw := hw s1 e2
  refine z_aload_n hX dX3_saveSnapshot_5 rfl (i := 0) rfl ?_
  obtain ⟨a10, f11, v9, r12, m13, e14, hw⟩ := hw
  refine z_get hX zc4 (k := 0) dX3_saveSnapshot_6 (Nat.le_of_ble_eq_true rfl) (zlk hX q2469) r12 m13 e14 ?_
  refine z_iconst hX (v := (0 : Int32)) dX3_saveSnapshot_9 (by decide) ?_
  refine z_aload_n hX dX3_saveSnapshot_10 rfl (i := 0) rfl ?_
  obtain ⟨a16, f17, v15, r18, m19, e20, hw⟩ := hw
  refine z_get hX zc4 (k := 2) dX3_saveSnapshot_11 (Nat.le_of_ble_eq_true rfl) (zlk hX q2471) r18 m19 e20 ?_
  refine z_iconst hX (v := (0 : Int32)) dX3_saveSnapshot_14 (by decide) ?_
  refine z_invS hX hd dX3_saveSnapshot_15 (hC 238 _ zm238 _ _ _ _ hw) q2915 q2916 zh7 q2917 q136 zn238 rfl (Nat.le_of_ble_eq_true rfl) (st := []) rfl (zcs8 (Nat.le_of_ble_eq_true rfl)) rfl (zkV (fun s22 hw => ?_)) (zout hX hR hTb)
  refine z_aload_n hX dX3_saveSnapshot_18 rfl (i := 0) rfl ?_
  refine z_iconst hX (v := (1 : Int32)) dX3_saveSnapshot_19 (by decide) ?_
  obtain ⟨b32, hw⟩ := hw
  obtain ⟨a26, f27, r28, g29, m30, l31, hw⟩ := hw
  refine z_put hX zc4 (k := 6) dX3_saveSnapshot_20 (Nat.le_of_ble_eq_true rfl) (zlk hX q2475) rfl (zn_z b32) (zf_z b32) r28 g29 m30 l31 (z_nm (fun s24 e25 => ?_))
  have hw := hw s24 e25
  exact z_return hX hR dX3_saveSnapshot_23 hw
abbrev cX3_restoreSnapshot : ByteArray := prog_28_method_108_code
def yX3_restoreSnapshot : MethodName := ⟨RX3, "restoreSnapshot", "()Z"⟩
def dkwX3_restoreSnapshot_1 : List UInt8 := [184, 1, 120, 42, 3, 181, 1, 117, 4, 172]
abbrev dktX3_restoreSnapshot_1 : List UInt8 := dkwX3_restoreSnapshot_1 ++ []
def dkwX3_restoreSnapshot_0 : List UInt8 := [42, 3, 181, 0, 103, 42, 180, 1, 124, 154, 0, 5, 3, 172, 42, 180, 0, 16, 3, 42, 180, 0, 9, 3]
abbrev dktX3_restoreSnapshot_0 : List UInt8 := dkwX3_restoreSnapshot_0 ++ dktX3_restoreSnapshot_1
theorem dksX3_restoreSnapshot_0 : cX3_restoreSnapshot.data.toList.drop 0 = dktX3_restoreSnapshot_0 := by decide +kernel
theorem dksX3_restoreSnapshot_1 : cX3_restoreSnapshot.data.toList.drop 24 = dktX3_restoreSnapshot_1 := dk_seg dksX3_restoreSnapshot_0 24 rfl rfl
theorem dX3_restoreSnapshot_0 : decode cX3_restoreSnapshot 0 = .ok (.aload_n 0, 1) := dk_42 (dk_at dksX3_restoreSnapshot_0 0 rfl rfl)
theorem dX3_restoreSnapshot_1 : decode cX3_restoreSnapshot 1 = .ok (.iconst 0, 1) := dk_3 (dk_at dksX3_restoreSnapshot_0 1 rfl rfl)
theorem dX3_restoreSnapshot_2 : decode cX3_restoreSnapshot 2 = .ok (.putfield 103, 3) := dk_181 0 103 (dk_at dksX3_restoreSnapshot_0 2 rfl rfl)
theorem dX3_restoreSnapshot_5 : decode cX3_restoreSnapshot 5 = .ok (.aload_n 0, 1) := dk_42 (dk_at dksX3_restoreSnapshot_0 5 rfl rfl)
theorem dX3_restoreSnapshot_6 : decode cX3_restoreSnapshot 6 = .ok (.getfield 380, 3) := dk_180 1 124 (dk_at dksX3_restoreSnapshot_0 6 rfl rfl)
theorem dX3_restoreSnapshot_9 : decode cX3_restoreSnapshot 9 = .ok (.ifCond .ne 5, 3) := dk_154 0 5 (dk_at dksX3_restoreSnapshot_0 9 rfl rfl)
theorem dX3_restoreSnapshot_12 : decode cX3_restoreSnapshot 12 = .ok (.iconst 0, 1) := dk_3 (dk_at dksX3_restoreSnapshot_0 12 rfl rfl)
theorem dX3_restoreSnapshot_13 : decode cX3_restoreSnapshot 13 = .ok (.ireturn, 1) := dk_172 (dk_at dksX3_restoreSnapshot_0 13 rfl rfl)
theorem dX3_restoreSnapshot_14 : decode cX3_restoreSnapshot 14 = .ok (.aload_n 0, 1) := dk_42 (dk_at dksX3_restoreSnapshot_0 14 rfl rfl)
theorem dX3_restoreSnapshot_15 : decode cX3_restoreSnapshot 15 = .ok (.getfield 16, 3) := dk_180 0 16 (dk_at dksX3_restoreSnapshot_0 15 rfl rfl)
theorem dX3_restoreSnapshot_18 : decode cX3_restoreSnapshot 18 = .ok (.iconst 0, 1) := dk_3 (dk_at dksX3_restoreSnapshot_0 18 rfl rfl)
theorem dX3_restoreSnapshot_19 : decode cX3_restoreSnapshot 19 = .ok (.aload_n 0, 1) := dk_42 (dk_at dksX3_restoreSnapshot_0 19 rfl rfl)
theorem dX3_restoreSnapshot_20 : decode cX3_restoreSnapshot 20 = .ok (.getfield 9, 3) := dk_180 0 9 (dk_at dksX3_restoreSnapshot_0 20 rfl rfl)
theorem dX3_restoreSnapshot_23 : decode cX3_restoreSnapshot 23 = .ok (.iconst 0, 1) := dk_3 (dk_at dksX3_restoreSnapshot_0 23 rfl rfl)
theorem dX3_restoreSnapshot_24 : decode cX3_restoreSnapshot 24 = .ok (.invokestatic 376, 3) := dk_184 1 120 (dk_at dksX3_restoreSnapshot_1 0 rfl rfl)
theorem dX3_restoreSnapshot_27 : decode cX3_restoreSnapshot 27 = .ok (.aload_n 0, 1) := dk_42 (dk_at dksX3_restoreSnapshot_1 3 rfl rfl)
theorem dX3_restoreSnapshot_28 : decode cX3_restoreSnapshot 28 = .ok (.iconst 0, 1) := dk_3 (dk_at dksX3_restoreSnapshot_1 4 rfl rfl)
theorem dX3_restoreSnapshot_29 : decode cX3_restoreSnapshot 29 = .ok (.putfield 373, 3) := dk_181 1 117 (dk_at dksX3_restoreSnapshot_1 5 rfl rfl)
theorem dX3_restoreSnapshot_32 : decode cX3_restoreSnapshot 32 = .ok (.iconst 1, 1) := dk_4 (dk_at dksX3_restoreSnapshot_1 8 rfl rfl)
theorem dX3_restoreSnapshot_33 : decode cX3_restoreSnapshot 33 = .ok (.ireturn, 1) := dk_172 (dk_at dksX3_restoreSnapshot_1 9 rfl rfl)
/-- PackingDuelModel.restoreSnapshot()Z -/
def zb261 (G : zPg) (C : zO) (args : List Value) (Q : zQ) (Y : zY) (σ : zS) : Prop := ∃ (a0 : Nat), args = [.ref a0] ∧ (zput σ G.1 (some a0) 4 5 (.int (0 : Int32)) (fun s1 => zgI s1 (some a0) 4 6 (fun v9 => ((¬ v9 = 0) → zgR s1 (some a0) 4 2 (fun v16 => zgR s1 (some a0) 4 0 (fun v22 => zcl C 238 [va_rf v16, .int (0 : Int32), va_rf v22, .int (0 : Int32)] Y s1 (zqV (fun s29 => zput s29 G.1 (some a0) 4 4 (.int (0 : Int32)) (fun s31 => zbool (1 : Int32) ∧ Q (some (.int (1 : Int32))) s31)))))) ∧ ((v9 = 0) → zbool (0 : Int32) ∧ Q (some (.int (0 : Int32))) s1))))
set_option maxHeartbeats 4000000 in
theorem wk261 {l : Launch} {g : zG} {d : Nat} {C : zO} (hG : zGk g) (hC : zSound l g d C) {args : List Value} {Q : zQ} {Y : zY} {σ : zS} (hw : zb261 (zpg g) C args Q Y σ) : zMet l g (d + 1) (⟨"PackingDuelModel", "restoreSnapshot", "()Z"⟩, Cond.code ⟨"PackingDuelModel", "restoreSnapshot", "()Z"⟩ prog_28_method_108_code 1 (Option.some FieldType.boolean)) args σ Q Y := by
  obtain ⟨a0, rfl, hw⟩ := hw
  refine zof hG (by decide +kernel) [false] ⟨rfl, trivial⟩ (Nat.le_of_ble_eq_true rfl) (ls := [some (va_rf (some a0))]) rfl ?_
  intro X hX hR hTb hd1 hd2 hl hg hnm
  subst hl
  subst hg
  have hd : zDep X d := ⟨hd1, hd2⟩
  refine z_aload_n hX dX3_restoreSnapshot_0 rfl (i := 0) rfl ?_
  refine z_iconst hX (v := (0 : Int32)) dX3_restoreSnapshot_1 (by decide) ?_
  obtain ⟨a3, f4, r5, g6, m7, l8, hw⟩ := hw
  refine z_put hX zc4 (k := 5) dX3_restoreSnapshot_2 (Nat.le_of_ble_eq_true rfl) (zlk hX q2474) rfl rfl rfl r5 g6 m7 l8 (z_nm (fun s1 e2 => ?_))
  have hw := hw s1 e2
  refine z_aload_n hX dX3_restoreSnapshot_5 rfl (i := 0) rfl ?_
  obtain ⟨a10, f11, v9, r12, m13, e14, hw⟩ := hw
  refine z_get hX zc4 (k := 6) dX3_restoreSnapshot_6 (Nat.le_of_ble_eq_true rfl) (zlk hX q2475) r12 m13 e14 ?_
  refine z_if_ne hX dX3_restoreSnapshot_9 (tgt := 14) rfl (fun c15 => ?_) (fun c15 => ?_)
  · have hw := hw.1 c15
    refine z_aload_n hX dX3_restoreSnapshot_14 rfl (i := 0) rfl ?_
    obtain ⟨a17, f18, v16, r19, m20, e21, hw⟩ := hw
    refine z_get hX zc4 (k := 2) dX3_restoreSnapshot_15 (Nat.le_of_ble_eq_true rfl) (zlk hX q2471) r19 m20 e21 ?_
    refine z_iconst hX (v := (0 : Int32)) dX3_restoreSnapshot_18 (by decide) ?_
    refine z_aload_n hX dX3_restoreSnapshot_19 rfl (i := 0) rfl ?_
    obtain ⟨a23, f24, v22, r25, m26, e27, hw⟩ := hw
    refine z_get hX zc4 (k := 0) dX3_restoreSnapshot_20 (Nat.le_of_ble_eq_true rfl) (zlk hX q2469) r25 m26 e27 ?_
    refine z_iconst hX (v := (0 : Int32)) dX3_restoreSnapshot_23 (by decide) ?_
    refine z_invS hX hd dX3_restoreSnapshot_24 (hC 238 _ zm238 _ _ _ _ hw) q2915 q2916 zh7 q2917 q136 zn238 rfl (Nat.le_of_ble_eq_true rfl) (st := []) rfl (zcs8 (Nat.le_of_ble_eq_true rfl)) rfl (zkV (fun s29 hw => ?_)) (zout hX hR hTb)
    refine z_aload_n hX dX3_restoreSnapshot_27 rfl (i := 0) rfl ?_
    refine z_iconst hX (v := (0 : Int32)) dX3_restoreSnapshot_28 (by decide) ?_
    obtain ⟨a33, f34, r35, g36, m37, l38, hw⟩ := hw
    refine z_put hX zc4 (k := 4) dX3_restoreSnapshot_29 (Nat.le_of_ble_eq_true rfl) (zlk hX q2473) rfl rfl rfl r35 g36 m37 l38 (z_nm (fun s31 e32 => ?_))
    have hw := hw s31 e32
    refine z_iconst hX (v := (1 : Int32)) dX3_restoreSnapshot_32 (by decide) ?_
    exact z_ireturn hX hR dX3_restoreSnapshot_33 (zn_z hw.1) hw.2
  · have hw := hw.2 c15
    refine z_iconst hX (v := (0 : Int32)) dX3_restoreSnapshot_12 (by decide) ?_
    exact z_ireturn hX hR dX3_restoreSnapshot_13 (zn_z hw.1) hw.2
abbrev cX3_feed : ByteArray := prog_28_method_109_code
def yX3_feed : MethodName := ⟨RX3, "feed", "(IIIII)I"⟩
def dkwX3_feed_5 : List UInt8 := [167, 255, 162, 42, 180, 1, 128, 172]
abbrev dktX3_feed_5 : List UInt8 := dkwX3_feed_5 ++ []
def dkwX3_feed_4 : List UInt8 := [112, 104, 100, 122, 17, 0, 255, 126, 79, 42, 89, 180, 1, 128, 4, 96, 181, 1, 128, 132, 6, 1]
abbrev dktX3_feed_4 : List UInt8 := dkwX3_feed_4 ++ dktX3_feed_5
def dkwX3_feed_3 : List UInt8 := [167, 0, 5, 21, 5, 54, 7, 42, 180, 0, 62, 42, 180, 1, 128, 21, 7, 16, 24, 16, 8, 21, 6, 7]
abbrev dktX3_feed_3 : List UInt8 := dkwX3_feed_3 ++ dktX3_feed_4
def dkwX3_feed_2 : List UInt8 := [28, 167, 0, 28, 21, 6, 16, 12, 162, 0, 7, 29, 167, 0, 17, 21, 6, 16, 16, 162, 0, 8, 21, 4]
abbrev dktX3_feed_2 : List UInt8 := dkwX3_feed_2 ++ dktX3_feed_3
def dkwX3_feed_1 : List UInt8 := [21, 6, 16, 20, 162, 0, 93, 21, 6, 7, 162, 0, 7, 27, 167, 0, 39, 21, 6, 16, 8, 162, 0, 7]
abbrev dktX3_feed_1 : List UInt8 := dkwX3_feed_1 ++ dktX3_feed_2
def dkwX3_feed_0 : List UInt8 := [42, 3, 181, 0, 103, 42, 180, 1, 128, 16, 20, 96, 17, 1, 244, 164, 0, 5, 2, 172, 3, 54, 6]
abbrev dktX3_feed_0 : List UInt8 := dkwX3_feed_0 ++ dktX3_feed_1
theorem dksX3_feed_0 : cX3_feed.data.toList.drop 0 = dktX3_feed_0 := by decide +kernel
theorem dksX3_feed_1 : cX3_feed.data.toList.drop 23 = dktX3_feed_1 := dk_seg dksX3_feed_0 23 rfl rfl
theorem dksX3_feed_2 : cX3_feed.data.toList.drop 47 = dktX3_feed_2 := dk_seg dksX3_feed_1 24 rfl rfl
theorem dksX3_feed_3 : cX3_feed.data.toList.drop 71 = dktX3_feed_3 := dk_seg dksX3_feed_2 24 rfl rfl
theorem dksX3_feed_4 : cX3_feed.data.toList.drop 95 = dktX3_feed_4 := dk_seg dksX3_feed_3 24 rfl rfl
theorem dksX3_feed_5 : cX3_feed.data.toList.drop 117 = dktX3_feed_5 := dk_seg dksX3_feed_4 22 rfl rfl
theorem dX3_feed_0 : decode cX3_feed 0 = .ok (.aload_n 0, 1) := dk_42 (dk_at dksX3_feed_0 0 rfl rfl)
theorem dX3_feed_1 : decode cX3_feed 1 = .ok (.iconst 0, 1) := dk_3 (dk_at dksX3_feed_0 1 rfl rfl)
theorem dX3_feed_2 : decode cX3_feed 2 = .ok (.putfield 103, 3) := dk_181 0 103 (dk_at dksX3_feed_0 2 rfl rfl)
theorem dX3_feed_5 : decode cX3_feed 5 = .ok (.aload_n 0, 1) := dk_42 (dk_at dksX3_feed_0 5 rfl rfl)
theorem dX3_feed_6 : decode cX3_feed 6 = .ok (.getfield 384, 3) := dk_180 1 128 (dk_at dksX3_feed_0 6 rfl rfl)
theorem dX3_feed_9 : decode cX3_feed 9 = .ok (.bipush 20, 2) := dk_16 20 (dk_at dksX3_feed_0 9 rfl rfl)
theorem dX3_feed_11 : decode cX3_feed 11 = .ok (.iadd, 1) := dk_96 (dk_at dksX3_feed_0 11 rfl rfl)
theorem dX3_feed_12 : decode cX3_feed 12 = .ok (.sipush 500, 3) := dk_17 1 244 (dk_at dksX3_feed_0 12 rfl rfl)
theorem dX3_feed_15 : decode cX3_feed 15 = .ok (.if_icmp .le 5, 3) := dk_164 0 5 (dk_at dksX3_feed_0 15 rfl rfl)
theorem dX3_feed_18 : decode cX3_feed 18 = .ok (.iconst (-1), 1) := dk_2 (dk_at dksX3_feed_0 18 rfl rfl)
theorem dX3_feed_19 : decode cX3_feed 19 = .ok (.ireturn, 1) := dk_172 (dk_at dksX3_feed_0 19 rfl rfl)
theorem dX3_feed_20 : decode cX3_feed 20 = .ok (.iconst 0, 1) := dk_3 (dk_at dksX3_feed_0 20 rfl rfl)
theorem dX3_feed_21 : decode cX3_feed 21 = .ok (.istore 6, 2) := dk_54 6 (dk_at dksX3_feed_0 21 rfl rfl)
theorem dX3_feed_23 : decode cX3_feed 23 = .ok (.iload 6, 2) := dk_21 6 (dk_at dksX3_feed_1 0 rfl rfl)
theorem dX3_feed_25 : decode cX3_feed 25 = .ok (.bipush 20, 2) := dk_16 20 (dk_at dksX3_feed_1 2 rfl rfl)
theorem dX3_feed_27 : decode cX3_feed 27 = .ok (.if_icmp .ge 93, 3) := dk_162 0 93 (dk_at dksX3_feed_1 4 rfl rfl)
theorem dX3_feed_30 : decode cX3_feed 30 = .ok (.iload 6, 2) := dk_21 6 (dk_at dksX3_feed_1 7 rfl rfl)
theorem dX3_feed_32 : decode cX3_feed 32 = .ok (.iconst 4, 1) := dk_7 (dk_at dksX3_feed_1 9 rfl rfl)
theorem dX3_feed_33 : decode cX3_feed 33 = .ok (.if_icmp .ge 7, 3) := dk_162 0 7 (dk_at dksX3_feed_1 10 rfl rfl)
theorem dX3_feed_36 : decode cX3_feed 36 = .ok (.iload_n 1, 1) := dk_27 (dk_at dksX3_feed_1 13 rfl rfl)
theorem dX3_feed_37 : decode cX3_feed 37 = .ok (.goto 39, 3) := dk_167 0 39 (dk_at dksX3_feed_1 14 rfl rfl)
theorem dX3_feed_40 : decode cX3_feed 40 = .ok (.iload 6, 2) := dk_21 6 (dk_at dksX3_feed_1 17 rfl rfl)
theorem dX3_feed_42 : decode cX3_feed 42 = .ok (.bipush 8, 2) := dk_16 8 (dk_at dksX3_feed_1 19 rfl rfl)
theorem dX3_feed_44 : decode cX3_feed 44 = .ok (.if_icmp .ge 7, 3) := dk_162 0 7 (dk_at dksX3_feed_1 21 rfl rfl)
theorem dX3_feed_47 : decode cX3_feed 47 = .ok (.iload_n 2, 1) := dk_28 (dk_at dksX3_feed_2 0 rfl rfl)
theorem dX3_feed_48 : decode cX3_feed 48 = .ok (.goto 28, 3) := dk_167 0 28 (dk_at dksX3_feed_2 1 rfl rfl)
theorem dX3_feed_51 : decode cX3_feed 51 = .ok (.iload 6, 2) := dk_21 6 (dk_at dksX3_feed_2 4 rfl rfl)
theorem dX3_feed_53 : decode cX3_feed 53 = .ok (.bipush 12, 2) := dk_16 12 (dk_at dksX3_feed_2 6 rfl rfl)
theorem dX3_feed_55 : decode cX3_feed 55 = .ok (.if_icmp .ge 7, 3) := dk_162 0 7 (dk_at dksX3_feed_2 8 rfl rfl)
theorem dX3_feed_58 : decode cX3_feed 58 = .ok (.iload_n 3, 1) := dk_29 (dk_at dksX3_feed_2 11 rfl rfl)
theorem dX3_feed_59 : decode cX3_feed 59 = .ok (.goto 17, 3) := dk_167 0 17 (dk_at dksX3_feed_2 12 rfl rfl)
theorem dX3_feed_62 : decode cX3_feed 62 = .ok (.iload 6, 2) := dk_21 6 (dk_at dksX3_feed_2 15 rfl rfl)
theorem dX3_feed_64 : decode cX3_feed 64 = .ok (.bipush 16, 2) := dk_16 16 (dk_at dksX3_feed_2 17 rfl rfl)
theorem dX3_feed_66 : decode cX3_feed 66 = .ok (.if_icmp .ge 8, 3) := dk_162 0 8 (dk_at dksX3_feed_2 19 rfl rfl)
theorem dX3_feed_69 : decode cX3_feed 69 = .ok (.iload 4, 2) := dk_21 4 (dk_at dksX3_feed_2 22 rfl rfl)
theorem dX3_feed_71 : decode cX3_feed 71 = .ok (.goto 5, 3) := dk_167 0 5 (dk_at dksX3_feed_3 0 rfl rfl)
theorem dX3_feed_74 : decode cX3_feed 74 = .ok (.iload 5, 2) := dk_21 5 (dk_at dksX3_feed_3 3 rfl rfl)
theorem dX3_feed_76 : decode cX3_feed 76 = .ok (.istore 7, 2) := dk_54 7 (dk_at dksX3_feed_3 5 rfl rfl)
theorem dX3_feed_78 : decode cX3_feed 78 = .ok (.aload_n 0, 1) := dk_42 (dk_at dksX3_feed_3 7 rfl rfl)
theorem dX3_feed_79 : decode cX3_feed 79 = .ok (.getfield 62, 3) := dk_180 0 62 (dk_at dksX3_feed_3 8 rfl rfl)
theorem dX3_feed_82 : decode cX3_feed 82 = .ok (.aload_n 0, 1) := dk_42 (dk_at dksX3_feed_3 11 rfl rfl)
theorem dX3_feed_83 : decode cX3_feed 83 = .ok (.getfield 384, 3) := dk_180 1 128 (dk_at dksX3_feed_3 12 rfl rfl)
theorem dX3_feed_86 : decode cX3_feed 86 = .ok (.iload 7, 2) := dk_21 7 (dk_at dksX3_feed_3 15 rfl rfl)
theorem dX3_feed_88 : decode cX3_feed 88 = .ok (.bipush 24, 2) := dk_16 24 (dk_at dksX3_feed_3 17 rfl rfl)
theorem dX3_feed_90 : decode cX3_feed 90 = .ok (.bipush 8, 2) := dk_16 8 (dk_at dksX3_feed_3 19 rfl rfl)
theorem dX3_feed_92 : decode cX3_feed 92 = .ok (.iload 6, 2) := dk_21 6 (dk_at dksX3_feed_3 21 rfl rfl)
theorem dX3_feed_94 : decode cX3_feed 94 = .ok (.iconst 4, 1) := dk_7 (dk_at dksX3_feed_3 23 rfl rfl)
theorem dX3_feed_95 : decode cX3_feed 95 = .ok (.irem, 1) := dk_112 (dk_at dksX3_feed_4 0 rfl rfl)
theorem dX3_feed_96 : decode cX3_feed 96 = .ok (.imul, 1) := dk_104 (dk_at dksX3_feed_4 1 rfl rfl)
theorem dX3_feed_97 : decode cX3_feed 97 = .ok (.isub, 1) := dk_100 (dk_at dksX3_feed_4 2 rfl rfl)
theorem dX3_feed_98 : decode cX3_feed 98 = .ok (.ishr, 1) := dk_122 (dk_at dksX3_feed_4 3 rfl rfl)
theorem dX3_feed_99 : decode cX3_feed 99 = .ok (.sipush 255, 3) := dk_17 0 255 (dk_at dksX3_feed_4 4 rfl rfl)
theorem dX3_feed_102 : decode cX3_feed 102 = .ok (.iand, 1) := dk_126 (dk_at dksX3_feed_4 7 rfl rfl)
theorem dX3_feed_103 : decode cX3_feed 103 = .ok (.iastore, 1) := dk_79 (dk_at dksX3_feed_4 8 rfl rfl)
theorem dX3_feed_104 : decode cX3_feed 104 = .ok (.aload_n 0, 1) := dk_42 (dk_at dksX3_feed_4 9 rfl rfl)
theorem dX3_feed_105 : decode cX3_feed 105 = .ok (.dup, 1) := dk_89 (dk_at dksX3_feed_4 10 rfl rfl)
theorem dX3_feed_106 : decode cX3_feed 106 = .ok (.getfield 384, 3) := dk_180 1 128 (dk_at dksX3_feed_4 11 rfl rfl)
theorem dX3_feed_109 : decode cX3_feed 109 = .ok (.iconst 1, 1) := dk_4 (dk_at dksX3_feed_4 14 rfl rfl)
theorem dX3_feed_110 : decode cX3_feed 110 = .ok (.iadd, 1) := dk_96 (dk_at dksX3_feed_4 15 rfl rfl)
theorem dX3_feed_111 : decode cX3_feed 111 = .ok (.putfield 384, 3) := dk_181 1 128 (dk_at dksX3_feed_4 16 rfl rfl)
theorem dX3_feed_114 : decode cX3_feed 114 = .ok (.iinc 6 1, 3) := dk_132 6 1 (dk_at dksX3_feed_4 19 rfl rfl)
theorem dX3_feed_117 : decode cX3_feed 117 = .ok (.goto (-94), 3) := dk_167 255 162 (dk_at dksX3_feed_5 0 rfl rfl)
theorem dX3_feed_120 : decode cX3_feed 120 = .ok (.aload_n 0, 1) := dk_42 (dk_at dksX3_feed_5 3 rfl rfl)
theorem dX3_feed_121 : decode cX3_feed 121 = .ok (.getfield 384, 3) := dk_180 1 128 (dk_at dksX3_feed_5 4 rfl rfl)
theorem dX3_feed_124 : decode cX3_feed 124 = .ok (.ireturn, 1) := dk_172 (dk_at dksX3_feed_5 7 rfl rfl)
/-- PackingDuelModel.feed(IIIII)I -/
def zb262 (G : zPg) (C : zO) (args : List Value) (Q : zQ) (Y : zY) (σ : zS) : Prop := ∃ (a0 : Nat) (x1 : Int32) (x2 : Int32) (x3 : Int32) (x4 : Int32) (x5 : Int32), args = [.ref a0, .int x1, .int x2, .int x3, .int x4, .int x5] ∧ (zput σ G.1 (some a0) 4 5 (.int (0 : Int32)) (fun s1 => zgI s1 (some a0) 4 28 (fun v9 => (((v9 + (20 : Int32)) ≤ (500 : Int32)) → ∃ n, zIt (fun _ _ => False) (fun rec18 (p16 : Int32) (s17 : zS) => (((20 : Int32) ≤ p16) → zgI s17 (some a0) 4 28 (fun v20 => Q (some (.int v20)) s17)) ∧ ((¬ (20 : Int32) ≤ p16) → zJ (fun (p26 : Int32) (s27 : zS) => zgR s27 (some a0) 4 27 (fun v29 => zgI s27 (some a0) 4 28 (fun v35 => (¬ (4 : Int32) = 0 ∧ (∀ v41 : Int32, v41 = ((8 : Int32) * (p16 - p16 / (4 : Int32) * (4 : Int32))) → (∀ v43 : Int32, v43 = ((p26 >>> (((24 : Int32) - v41) &&& 31)) &&& (255 : Int32)) → zsI s27 G.1 0 v29 v35 v43 (fun s52 => zgI s52 (some a0) 4 28 (fun v54 => zput s52 G.1 (some a0) 4 28 (.int (v54 + (1 : Int32))) (fun s60 => (∀ v68 : Int32, v68 = p16 + (1 : Int32) → rec18 v68 s60)))))))))) (fun (j28 : Int32 → zS → Prop) => (((4 : Int32) ≤ p16) → (((8 : Int32) ≤ p16) → (((12 : Int32) ≤ p16) → (((16 : Int32) ≤ p16) → j28 x5 s17) ∧ ((¬ (16 : Int32) ≤ p16) → j28 x4 s17)) ∧ ((¬ (12 : Int32) ≤ p16) → j28 x3 s17)) ∧ ((¬ (8 : Int32) ≤ p16) → j28 x2 s17)) ∧ ((¬ (4 : Int32) ≤ p16) → j28 x1 s17)))) n (0 : Int32) s1) ∧ ((¬ (v9 + (20 : Int32)) ≤ (500 : Int32)) → Q (some (.int (-1 : Int32))) s1))))
set_option maxHeartbeats 4000000 in
theorem wk262 {l : Launch} {g : zG} {d : Nat} {C : zO} (hG : zGk g) (hC : zSound l g d C) {args : List Value} {Q : zQ} {Y : zY} {σ : zS} (hw : zb262 (zpg g) C args Q Y σ) : zMet l g (d + 1) (⟨"PackingDuelModel", "feed", "(IIIII)I"⟩, Cond.code ⟨"PackingDuelModel", "feed", "(IIIII)I"⟩ prog_28_method_109_code 8 (Option.some FieldType.int)) args σ Q Y := by
  obtain ⟨a0, x1, x2, x3, x4, x5, rfl, hw⟩ := hw
  refine zof hG (by decide +kernel) [false, false, false, false, false, false] ⟨rfl, rfl, rfl, rfl, rfl, rfl, trivial⟩ (Nat.le_of_ble_eq_true rfl) (ls := [some (va_rf (some a0)), some (.int x1), some (.int x2), some (.int x3), some (.int x4), some (.int x5), none, none]) rfl ?_
  intro X hX hR hTb hd1 hd2 hl hg hnm
  subst hl
  subst hg
  have hd : zDep X d := ⟨hd1, hd2⟩
  refine z_aload_n hX dX3_feed_0 rfl (i := 0) rfl ?_
  refine z_iconst hX (v := (0 : Int32)) dX3_feed_1 (by decide) ?_
  obtain ⟨a3, f4, r5, g6, m7, l8, hw⟩ := hw
  refine z_put hX zc4 (k := 5) dX3_feed_2 (Nat.le_of_ble_eq_true rfl) (zlk hX q2474) rfl rfl rfl r5 g6 m7 l8 (z_nm (fun s1 e2 => ?_))
  have hw := hw s1 e2
  refine z_aload_n hX dX3_feed_5 rfl (i := 0) rfl ?_
  obtain ⟨a10, f11, v9, r12, m13, e14, hw⟩ := hw
  refine z_get hX zc4 (k := 28) dX3_feed_6 (Nat.le_of_ble_eq_true rfl) (zlk hX q2497) r12 m13 e14 ?_
  refine z_bipush hX (v := (20 : Int32)) dX3_feed_9 (by decide) ?_
  refine z_iadd hX dX3_feed_11 ?_
  refine z_sipush hX (v := (500 : Int32)) dX3_feed_12 (by decide) ?_
  refine z_icmp_le hX dX3_feed_15 (tgt := 20) rfl (fun c15 => ?_) (fun c15 => ?_)
  · have hw := hw.1 c15
    refine z_iconst hX (v := (0 : Int32)) dX3_feed_20 (by decide) ?_
    refine z_istore hX dX3_feed_21 (i := 6) (Nat.le_of_ble_eq_true rfl) rfl (ls2 := [some (va_rf (some a0)), some (.int x1), some (.int x2), some (.int x3), some (.int x4), some (.int x5), some (.int (0 : Int32)), none]) rfl ?_
    obtain ⟨n74, hw⟩ := hw
    refine zIt_w (P := fun (j : Int32 → zS → Prop) => ∀ (p16 : Int32) (s17 : zS), j p16 s17 → zW X s17 23 [some (va_rf (some a0)), some (.int x1), some (.int x2), some (.int x3), some (.int x4), some (.int x5), some (.int p16), none] []) (fun _ _ h => h.elim) (fun rec18 hrec18 p16 s17 hw => ?_) n74 _ _ hw
    refine z_iload hX dX3_feed_23 (i := 6) rfl ?_
    refine z_bipush hX (v := (20 : Int32)) dX3_feed_25 (by decide) ?_
    refine z_icmp_ge hX dX3_feed_27 (tgt := 120) rfl (fun c19 => ?_) (fun c19 => ?_)
    · have hw := hw.1 c19
      refine z_aload_n hX dX3_feed_120 rfl (i := 0) rfl ?_
      obtain ⟨a21, f22, v20, r23, m24, e25, hw⟩ := hw
      refine z_get hX zc4 (k := 28) dX3_feed_121 (Nat.le_of_ble_eq_true rfl) (zlk hX q2497) r23 m24 e25 ?_
      exact z_ireturn hX hR dX3_feed_124 rfl hw
    · have hw := hw.2 c19
      refine z_iload hX dX3_feed_30 (i := 6) rfl ?_
      refine z_iconst hX (v := (4 : Int32)) dX3_feed_32 (by decide) ?_
      refine zJ_w (P := fun (j : Int32 → zS → Prop) => ∀ (p26 : Int32) (s27 : zS), j p26 s27 → zW X s27 76 [some (va_rf (some a0)), some (.int x1), some (.int x2), some (.int x3), some (.int x4), some (.int x5), some (.int p16), none] [.int p26]) hw (fun p26 s27 hw => ?_) (fun j28 hj28 hw => ?_)
      · refine z_istore hX dX3_feed_76 (i := 7) (Nat.le_of_ble_eq_true rfl) rfl (ls2 := [some (va_rf (some a0)), some (.int x1), some (.int x2), some (.int x3), some (.int x4), some (.int x5), some (.int p16), some (.int p26)]) rfl ?_
        refine z_aload_n hX dX3_feed_78 rfl (i := 0) rfl ?_
        obtain ⟨a30, f31, v29, r32, m33, e34, hw⟩ := hw
        refine z_get hX zc4 (k := 27) dX3_feed_79 (Nat.le_of_ble_eq_true rfl) (zlk hX q2496) r32 m33 e34 ?_
        refine z_aload_n hX dX3_feed_82 rfl (i := 0) rfl ?_
        obtain ⟨a36, f37, v35, r38, m39, e40, hw⟩ := hw
        refine z_get hX zc4 (k := 28) dX3_feed_83 (Nat.le_of_ble_eq_true rfl) (zlk hX q2497) r38 m39 e40 ?_
        refine z_iload hX dX3_feed_86 (i := 7) rfl ?_
        refine z_bipush hX (v := (24 : Int32)) dX3_feed_88 (by decide) ?_
        refine z_bipush hX (v := (8 : Int32)) dX3_feed_90 (by decide) ?_
        refine z_iload hX dX3_feed_92 (i := 6) rfl ?_
        refine z_iconst hX (v := (4 : Int32)) dX3_feed_94 (by decide) ?_
        refine z_irem hX dX3_feed_95 hw.1 ?_
        have hw := hw.2
        refine z_imul hX dX3_feed_96 ?_
        refine z_topi (fun v41 e42 => ?_)
        have hw := hw v41 e42
        refine z_isub hX dX3_feed_97 ?_
        refine z_ishr hX dX3_feed_98 ?_
        refine z_sipush hX (v := (255 : Int32)) dX3_feed_99 (by decide) ?_
        refine z_iand hX dX3_feed_102 ?_
        refine z_topi (fun v43 e44 => ?_)
        have hw := hw v43 e44
        obtain ⟨a45, n46, f47, r48, g49, m50, i51, hw⟩ := hw
        refine z_iast hX dX3_feed_103 r48 g49 m50 i51 (z_nm (fun s52 e53 => ?_))
        have hw := hw s52 e53
        refine z_aload_n hX dX3_feed_104 rfl (i := 0) rfl ?_
        refine z_dup hX dX3_feed_105 (zc_rf _) ?_
        obtain ⟨a55, f56, v54, r57, m58, e59, hw⟩ := hw
        refine z_get hX zc4 (k := 28) dX3_feed_106 (Nat.le_of_ble_eq_true rfl) (zlk hX q2497) r57 m58 e59 ?_
        refine z_iconst hX (v := (1 : Int32)) dX3_feed_109 (by decide) ?_
        refine z_iadd hX dX3_feed_110 ?_
        obtain ⟨a62, f63, r64, g65, m66, l67, hw⟩ := hw
        refine z_put hX zc4 (k := 28) dX3_feed_111 (Nat.le_of_ble_eq_true rfl) (zlk hX q2497) rfl rfl rfl r64 g65 m66 l67 (z_nm (fun s60 e61 => ?_))
        have hw := hw s60 e61
        obtain ⟨v68, e69⟩ : ∃ y : Int32, y = p16 + (1 : Int32) := ⟨_, rfl⟩
        refine z_iinc hX dX3_feed_114 (i := 6) (v := v68) rfl (by rw [e69]; rfl) (Nat.le_of_ble_eq_true rfl) rfl (ls2 := [some (va_rf (some a0)), some (.int x1), some (.int x2), some (.int x3), some (.int x4), some (.int x5), some (.int v68), some (.int p26)]) rfl ?_
        have hw := hw v68 e69
        refine z_goto hX dX3_feed_117 (tgt := 23) rfl ?_
        refine z_sub (ls' := [some (va_rf (some a0)), some (.int x1), some (.int x2), some (.int x3), some (.int x4), some (.int x5), some (.int v68), none]) (zsS (zsS (zsS (zsS (zsS (zsS (zsS (zsN (zs0))))))))) ?_
        exact hrec18 _ _ hw
      · refine z_icmp_ge hX dX3_feed_33 (tgt := 40) rfl (fun c70 => ?_) (fun c70 => ?_)
        · have hw := hw.1 c70
          refine z_iload hX dX3_feed_40 (i := 6) rfl ?_
          refine z_bipush hX (v := (8 : Int32)) dX3_feed_42 (by decide) ?_
          refine z_icmp_ge hX dX3_feed_44 (tgt := 51) rfl (fun c71 => ?_) (fun c71 => ?_)
          · have hw := hw.1 c71
            refine z_iload hX dX3_feed_51 (i := 6) rfl ?_
            refine z_bipush hX (v := (12 : Int32)) dX3_feed_53 (by decide) ?_
            refine z_icmp_ge hX dX3_feed_55 (tgt := 62) rfl (fun c72 => ?_) (fun c72 => ?_)
            · have hw := hw.1 c72
              refine z_iload hX dX3_feed_62 (i := 6) rfl ?_
              refine z_bipush hX (v := (16 : Int32)) dX3_feed_64 (by decide) ?_
              refine z_icmp_ge hX dX3_feed_66 (tgt := 74) rfl (fun c73 => ?_) (fun c73 => ?_)
              · have hw := hw.1 c73
                refine z_iload hX dX3_feed_74 (i := 5) rfl ?_
                exact hj28 _ _ hw
              · have hw := hw.2 c73
                refine z_iload hX dX3_feed_69 (i := 4) rfl ?_
                refine z_goto hX dX3_feed_71 (tgt := 76) rfl ?_
                exact hj28 _ _ hw
            · have hw := hw.2 c72
              refine z_iload_n hX dX3_feed_58 rfl (i := 3) rfl ?_
              refine z_goto hX dX3_feed_59 (tgt := 76) rfl ?_
              exact hj28 _ _ hw
          · have hw := hw.2 c71
            refine z_iload_n hX dX3_feed_47 rfl (i := 2) rfl ?_
            refine z_goto hX dX3_feed_48 (tgt := 76) rfl ?_
            exact hj28 _ _ hw
        · have hw := hw.2 c70
          refine z_iload_n hX dX3_feed_36 rfl (i := 1) rfl ?_
          refine z_goto hX dX3_feed_37 (tgt := 76) rfl ?_
          exact hj28 _ _ hw
  · have hw := hw.2 c15
    refine z_iconst hX (v := (-1 : Int32)) dX3_feed_18 (by decide) ?_
    exact z_ireturn hX hR dX3_feed_19 rfl hw
abbrev cX3_errorPosition : ByteArray := prog_28_method_110_code
def yX3_errorPosition : MethodName := ⟨RX3, "errorPosition", "()I"⟩
def dkwX3_errorPosition_0 : List UInt8 := [42, 3, 181, 0, 103, 42, 180, 0, 65, 172]
abbrev dktX3_errorPosition_0 : List UInt8 := dkwX3_errorPosition_0 ++ []
theorem dksX3_errorPosition_0 : cX3_errorPosition.data.toList.drop 0 = dktX3_errorPosition_0 := by decide +kernel
theorem dX3_errorPosition_0 : decode cX3_errorPosition 0 = .ok (.aload_n 0, 1) := dk_42 (dk_at dksX3_errorPosition_0 0 rfl rfl)
theorem dX3_errorPosition_1 : decode cX3_errorPosition 1 = .ok (.iconst 0, 1) := dk_3 (dk_at dksX3_errorPosition_0 1 rfl rfl)
theorem dX3_errorPosition_2 : decode cX3_errorPosition 2 = .ok (.putfield 103, 3) := dk_181 0 103 (dk_at dksX3_errorPosition_0 2 rfl rfl)
theorem dX3_errorPosition_5 : decode cX3_errorPosition 5 = .ok (.aload_n 0, 1) := dk_42 (dk_at dksX3_errorPosition_0 5 rfl rfl)
theorem dX3_errorPosition_6 : decode cX3_errorPosition 6 = .ok (.getfield 65, 3) := dk_180 0 65 (dk_at dksX3_errorPosition_0 6 rfl rfl)
theorem dX3_errorPosition_9 : decode cX3_errorPosition 9 = .ok (.ireturn, 1) := dk_172 (dk_at dksX3_errorPosition_0 9 rfl rfl)
/-- PackingDuelModel.errorPosition()I -/
def zb263 (G : zPg) (C : zO) (args : List Value) (Q : zQ) (Y : zY) (σ : zS) : Prop := ∃ (a0 : Nat), args = [.ref a0] ∧ (zput σ G.1 (some a0) 4 5 (.int (0 : Int32)) (fun s1 => zgI s1 (some a0) 4 35 (fun v9 => Q (some (.int v9)) s1)))
set_option maxHeartbeats 4000000 in
theorem wk263 {l : Launch} {g : zG} {d : Nat} {C : zO} (hG : zGk g) (hC : zSound l g d C) {args : List Value} {Q : zQ} {Y : zY} {σ : zS} (hw : zb263 (zpg g) C args Q Y σ) : zMet l g (d + 1) (⟨"PackingDuelModel", "errorPosition", "()I"⟩, Cond.code ⟨"PackingDuelModel", "errorPosition", "()I"⟩ prog_28_method_110_code 1 (Option.some FieldType.int)) args σ Q Y := by
  obtain ⟨a0, rfl, hw⟩ := hw
  refine zof hG (by decide +kernel) [false] ⟨rfl, trivial⟩ (Nat.le_of_ble_eq_true rfl) (ls := [some (va_rf (some a0))]) rfl ?_
  intro X hX hR hTb hd1 hd2 hl hg hnm
  subst hl
  subst hg
  have hd : zDep X d := ⟨hd1, hd2⟩
  refine z_aload_n hX dX3_errorPosition_0 rfl (i := 0) rfl ?_
  refine z_iconst hX (v := (0 : Int32)) dX3_errorPosition_1 (by decide) ?_
  obtain ⟨a3, f4, r5, g6, m7, l8, hw⟩ := hw
  refine z_put hX zc4 (k := 5) dX3_errorPosition_2 (Nat.le_of_ble_eq_true rfl) (zlk hX q2474) rfl rfl rfl r5 g6 m7 l8 (z_nm (fun s1 e2 => ?_))
  have hw := hw s1 e2
  refine z_aload_n hX dX3_errorPosition_5 rfl (i := 0) rfl ?_
  obtain ⟨a10, f11, v9, r12, m13, e14, hw⟩ := hw
  refine z_get hX zc4 (k := 35) dX3_errorPosition_6 (Nat.le_of_ble_eq_true rfl) (zlk hX q2504) r12 m13 e14 ?_
  exact z_ireturn hX hR dX3_errorPosition_9 rfl hw
abbrev cX3_load : ByteArray := prog_28_method_131_code
def yX3_load : MethodName := ⟨RX3, "load", "(I)I"⟩
def dkwX3_load_3 : List UInt8 := [42, 3, 181, 1, 124, 42, 182, 0, 106, 172]
abbrev dktX3_load_3 : List UInt8 := dkwX3_load_3 ++ []
def dkwX3_load_2 : List UInt8 := [42, 180, 1, 152, 100, 172, 42, 180, 0, 13, 3, 42, 180, 0, 9, 3, 184, 1, 120, 42, 3, 181, 1, 117]
abbrev dktX3_load_2 : List UInt8 := dkwX3_load_2 ++ dktX3_load_3
def dkwX3_load_1 : List UInt8 := [180, 0, 13, 184, 0, 99, 42, 27, 182, 1, 230, 42, 182, 1, 233, 42, 182, 1, 236, 153, 0, 11, 16, 246]
abbrev dktX3_load_1 : List UInt8 := dkwX3_load_1 ++ dktX3_load_2
def dkwX3_load_0 : List UInt8 := [42, 3, 181, 0, 103, 27, 3, 42, 180, 1, 128, 184, 0, 109, 154, 0, 9, 42, 4, 182, 1, 33, 172, 42]
abbrev dktX3_load_0 : List UInt8 := dkwX3_load_0 ++ dktX3_load_1
theorem dksX3_load_0 : cX3_load.data.toList.drop 0 = dktX3_load_0 := by decide +kernel
theorem dksX3_load_1 : cX3_load.data.toList.drop 24 = dktX3_load_1 := dk_seg dksX3_load_0 24 rfl rfl
theorem dksX3_load_2 : cX3_load.data.toList.drop 48 = dktX3_load_2 := dk_seg dksX3_load_1 24 rfl rfl
theorem dksX3_load_3 : cX3_load.data.toList.drop 72 = dktX3_load_3 := dk_seg dksX3_load_2 24 rfl rfl
theorem dX3_load_0 : decode cX3_load 0 = .ok (.aload_n 0, 1) := dk_42 (dk_at dksX3_load_0 0 rfl rfl)
theorem dX3_load_1 : decode cX3_load 1 = .ok (.iconst 0, 1) := dk_3 (dk_at dksX3_load_0 1 rfl rfl)
theorem dX3_load_2 : decode cX3_load 2 = .ok (.putfield 103, 3) := dk_181 0 103 (dk_at dksX3_load_0 2 rfl rfl)
theorem dX3_load_5 : decode cX3_load 5 = .ok (.iload_n 1, 1) := dk_27 (dk_at dksX3_load_0 5 rfl rfl)
theorem dX3_load_6 : decode cX3_load 6 = .ok (.iconst 0, 1) := dk_3 (dk_at dksX3_load_0 6 rfl rfl)
theorem dX3_load_7 : decode cX3_load 7 = .ok (.aload_n 0, 1) := dk_42 (dk_at dksX3_load_0 7 rfl rfl)
theorem dX3_load_8 : decode cX3_load 8 = .ok (.getfield 384, 3) := dk_180 1 128 (dk_at dksX3_load_0 8 rfl rfl)
theorem dX3_load_11 : decode cX3_load 11 = .ok (.invokestatic 109, 3) := dk_184 0 109 (dk_at dksX3_load_0 11 rfl rfl)
theorem dX3_load_14 : decode cX3_load 14 = .ok (.ifCond .ne 9, 3) := dk_154 0 9 (dk_at dksX3_load_0 14 rfl rfl)
theorem dX3_load_17 : decode cX3_load 17 = .ok (.aload_n 0, 1) := dk_42 (dk_at dksX3_load_0 17 rfl rfl)
theorem dX3_load_18 : decode cX3_load 18 = .ok (.iconst 1, 1) := dk_4 (dk_at dksX3_load_0 18 rfl rfl)
theorem dX3_load_19 : decode cX3_load 19 = .ok (.invokevirtual 289, 3) := dk_182 1 33 (dk_at dksX3_load_0 19 rfl rfl)
theorem dX3_load_22 : decode cX3_load 22 = .ok (.ireturn, 1) := dk_172 (dk_at dksX3_load_0 22 rfl rfl)
theorem dX3_load_23 : decode cX3_load 23 = .ok (.aload_n 0, 1) := dk_42 (dk_at dksX3_load_0 23 rfl rfl)
theorem dX3_load_24 : decode cX3_load 24 = .ok (.getfield 13, 3) := dk_180 0 13 (dk_at dksX3_load_1 0 rfl rfl)
theorem dX3_load_27 : decode cX3_load 27 = .ok (.invokestatic 99, 3) := dk_184 0 99 (dk_at dksX3_load_1 3 rfl rfl)
theorem dX3_load_30 : decode cX3_load 30 = .ok (.aload_n 0, 1) := dk_42 (dk_at dksX3_load_1 6 rfl rfl)
theorem dX3_load_31 : decode cX3_load 31 = .ok (.iload_n 1, 1) := dk_27 (dk_at dksX3_load_1 7 rfl rfl)
theorem dX3_load_32 : decode cX3_load 32 = .ok (.invokevirtual 486, 3) := dk_182 1 230 (dk_at dksX3_load_1 8 rfl rfl)
theorem dX3_load_35 : decode cX3_load 35 = .ok (.aload_n 0, 1) := dk_42 (dk_at dksX3_load_1 11 rfl rfl)
theorem dX3_load_36 : decode cX3_load 36 = .ok (.invokevirtual 489, 3) := dk_182 1 233 (dk_at dksX3_load_1 12 rfl rfl)
theorem dX3_load_39 : decode cX3_load 39 = .ok (.aload_n 0, 1) := dk_42 (dk_at dksX3_load_1 15 rfl rfl)
theorem dX3_load_40 : decode cX3_load 40 = .ok (.invokevirtual 492, 3) := dk_182 1 236 (dk_at dksX3_load_1 16 rfl rfl)
theorem dX3_load_43 : decode cX3_load 43 = .ok (.ifCond .eq 11, 3) := dk_153 0 11 (dk_at dksX3_load_1 19 rfl rfl)
theorem dX3_load_46 : decode cX3_load 46 = .ok (.bipush (-10), 2) := dk_16 246 (dk_at dksX3_load_1 22 rfl rfl)
theorem dX3_load_48 : decode cX3_load 48 = .ok (.aload_n 0, 1) := dk_42 (dk_at dksX3_load_2 0 rfl rfl)
theorem dX3_load_49 : decode cX3_load 49 = .ok (.getfield 408, 3) := dk_180 1 152 (dk_at dksX3_load_2 1 rfl rfl)
theorem dX3_load_52 : decode cX3_load 52 = .ok (.isub, 1) := dk_100 (dk_at dksX3_load_2 4 rfl rfl)
theorem dX3_load_53 : decode cX3_load 53 = .ok (.ireturn, 1) := dk_172 (dk_at dksX3_load_2 5 rfl rfl)
theorem dX3_load_54 : decode cX3_load 54 = .ok (.aload_n 0, 1) := dk_42 (dk_at dksX3_load_2 6 rfl rfl)
theorem dX3_load_55 : decode cX3_load 55 = .ok (.getfield 13, 3) := dk_180 0 13 (dk_at dksX3_load_2 7 rfl rfl)
theorem dX3_load_58 : decode cX3_load 58 = .ok (.iconst 0, 1) := dk_3 (dk_at dksX3_load_2 10 rfl rfl)
theorem dX3_load_59 : decode cX3_load 59 = .ok (.aload_n 0, 1) := dk_42 (dk_at dksX3_load_2 11 rfl rfl)
theorem dX3_load_60 : decode cX3_load 60 = .ok (.getfield 9, 3) := dk_180 0 9 (dk_at dksX3_load_2 12 rfl rfl)
theorem dX3_load_63 : decode cX3_load 63 = .ok (.iconst 0, 1) := dk_3 (dk_at dksX3_load_2 15 rfl rfl)
theorem dX3_load_64 : decode cX3_load 64 = .ok (.invokestatic 376, 3) := dk_184 1 120 (dk_at dksX3_load_2 16 rfl rfl)
theorem dX3_load_67 : decode cX3_load 67 = .ok (.aload_n 0, 1) := dk_42 (dk_at dksX3_load_2 19 rfl rfl)
theorem dX3_load_68 : decode cX3_load 68 = .ok (.iconst 0, 1) := dk_3 (dk_at dksX3_load_2 20 rfl rfl)
theorem dX3_load_69 : decode cX3_load 69 = .ok (.putfield 373, 3) := dk_181 1 117 (dk_at dksX3_load_2 21 rfl rfl)
theorem dX3_load_72 : decode cX3_load 72 = .ok (.aload_n 0, 1) := dk_42 (dk_at dksX3_load_3 0 rfl rfl)
theorem dX3_load_73 : decode cX3_load 73 = .ok (.iconst 0, 1) := dk_3 (dk_at dksX3_load_3 1 rfl rfl)
theorem dX3_load_74 : decode cX3_load 74 = .ok (.putfield 380, 3) := dk_181 1 124 (dk_at dksX3_load_3 2 rfl rfl)
theorem dX3_load_77 : decode cX3_load 77 = .ok (.aload_n 0, 1) := dk_42 (dk_at dksX3_load_3 5 rfl rfl)
theorem dX3_load_78 : decode cX3_load 78 = .ok (.invokevirtual 106, 3) := dk_182 0 106 (dk_at dksX3_load_3 6 rfl rfl)
theorem dX3_load_81 : decode cX3_load 81 = .ok (.ireturn, 1) := dk_172 (dk_at dksX3_load_3 9 rfl rfl)
/-- PackingDuelModel.load(I)I -/
def zb264 (G : zPg) (C : zO) (args : List Value) (Q : zQ) (Y : zY) (σ : zS) : Prop := ∃ (a0 : Nat) (x1 : Int32), args = [.ref a0, .int x1] ∧ (zput σ G.1 (some a0) 4 5 (.int (0 : Int32)) (fun s1 => zgI s1 (some a0) 4 28 (fun v9 => zcl C 166 [.int x1, .int (0 : Int32), .int v9] Y s1 (zqI (fun v15 s16 => ((¬ v15 = 0) → zgR s16 (some a0) 4 1 (fun v19 => zcl C 155 [va_rf v19] Y s16 (zqV (fun s26 => zrc s26 (some a0) 4 (fun a31 => zcl C 265 [.ref a31, .int x1] Y s26 (zqV (fun s29 => zrc s29 (some a0) 4 (fun a38 => zcl C 270 [.ref a38] Y s29 (zqV (fun s36 => zrc s36 (some a0) 4 (fun a45 => zcl C 284 [.ref a45] Y s36 (zqI (fun v42 s43 => ((v42 = 0) → zgR s43 (some a0) 4 1 (fun v50 => zgR s43 (some a0) 4 0 (fun v56 => zcl C 238 [va_rf v50, .int (0 : Int32), va_rf v56, .int (0 : Int32)] Y s43 (zqV (fun s63 => zput s63 G.1 (some a0) 4 4 (.int (0 : Int32)) (fun s65 => (zbool (0 : Int32) ∧ zput s65 G.1 (some a0) 4 6 (.int (0 : Int32)) (fun s73 => zrc s73 (some a0) 4 (fun a85 => zcl C 159 [.ref a85] Y s73 (zqI (fun v82 s83 => Q (some (.int v82)) s83))))))))))) ∧ ((¬ v42 = 0) → zgI s43 (some a0) 4 33 (fun v89 => Q (some (.int ((-10 : Int32) - v89))) s43))))))))))))))) ∧ ((v15 = 0) → zrc s16 (some a0) 4 (fun a98 => zcl C 163 [.ref a98, .int (1 : Int32)] Y s16 (zqI (fun v95 s96 => Q (some (.int v95)) s96)))))))))
set_option maxHeartbeats 4000000 in
theorem wk264 {l : Launch} {g : zG} {d : Nat} {C : zO} (hG : zGk g) (hC : zSound l g d C) {args : List Value} {Q : zQ} {Y : zY} {σ : zS} (hw : zb264 (zpg g) C args Q Y σ) : zMet l g (d + 1) (⟨"PackingDuelModel", "load", "(I)I"⟩, Cond.code ⟨"PackingDuelModel", "load", "(I)I"⟩ prog_28_method_131_code 2 (Option.some FieldType.int)) args σ Q Y := by
  obtain ⟨a0, x1, rfl, hw⟩ := hw
  refine zof hG (by decide +kernel) [false, false] ⟨rfl, rfl, trivial⟩ (Nat.le_of_ble_eq_true rfl) (ls := [some (va_rf (some a0)), some (.int x1)]) rfl ?_
  intro X hX hR hTb hd1 hd2 hl hg hnm
  subst hl
  subst hg
  have hd : zDep X d := ⟨hd1, hd2⟩
  refine z_aload_n hX dX3_load_0 rfl (i := 0) rfl ?_
  refine z_iconst hX (v := (0 : Int32)) dX3_load_1 (by decide) ?_
  obtain ⟨a3, f4, r5, g6, m7, l8, hw⟩ := hw
  refine z_put hX zc4 (k := 5) dX3_load_2 (Nat.le_of_ble_eq_true rfl) (zlk hX q2474) rfl rfl rfl r5 g6 m7 l8 (z_nm (fun s1 e2 => ?_))
  have hw := hw s1 e2
  refine z_iload_n hX dX3_load_5 rfl (i := 1) rfl ?_
  refine z_iconst hX (v := (0 : Int32)) dX3_load_6 (by decide) ?_
  refine z_aload_n hX dX3_load_7 rfl (i := 0) rfl ?_
  obtain ⟨a10, f11, v9, r12, m13, e14, hw⟩ := hw
  refine z_get hX zc4 (k := 28) dX3_load_8 (Nat.le_of_ble_eq_true rfl) (zlk hX q2497) r12 m13 e14 ?_
  refine z_invS hX hd dX3_load_11 (hC 166 _ zm166 _ _ _ _ hw) q2632 q2633 zh7 q2634 q136 zn166 rfl (Nat.le_of_ble_eq_true rfl) (st := []) rfl (zcs8 (Nat.le_of_ble_eq_true rfl)) rfl (zkI (fun v15 s16 hw => ?_)) (zout hX hR hTb)
  refine z_if_ne hX dX3_load_14 (tgt := 23) rfl (fun c18 => ?_) (fun c18 => ?_)
  · have hw := hw.1 c18
    refine z_aload_n hX dX3_load_23 rfl (i := 0) rfl ?_
    obtain ⟨a20, f21, v19, r22, m23, e24, hw⟩ := hw
    refine z_get hX zc4 (k := 1) dX3_load_24 (Nat.le_of_ble_eq_true rfl) (zlk hX q2470) r22 m23 e24 ?_
    refine z_invS hX hd dX3_load_27 (hC 155 _ zm155 _ _ _ _ hw) q2466 q2467 zh7 q2468 q136 zn155 rfl (Nat.le_of_ble_eq_true rfl) (st := []) rfl (zcs8 (Nat.le_of_ble_eq_true rfl)) rfl (zkV (fun s26 hw => ?_)) (zout hX hR hTb)
    refine z_aload_n hX dX3_load_30 rfl (i := 0) rfl ?_
    refine z_iload_n hX dX3_load_31 rfl (i := 1) rfl ?_
    obtain ⟨a31, f32, r33, m34, hw⟩ := hw
    refine z_invV hX hd r33 (ci := 4) rfl rfl m34 dX3_load_32 (hC 265 _ zm265 _ _ _ _ hw) q3026 q3028 qs101 zh7 q3029 q136 zn265 rfl (Nat.le_of_ble_eq_true rfl) (st := []) rfl (zcs8 (Nat.le_of_ble_eq_true rfl)) rfl (zkV (fun s29 hw => ?_)) (zout hX hR hTb)
    refine z_aload_n hX dX3_load_35 rfl (i := 0) rfl ?_
    obtain ⟨a38, f39, r40, m41, hw⟩ := hw
    refine z_invV hX hd r40 (ci := 4) rfl rfl m41 dX3_load_36 (hC 270 _ zm270 _ _ _ _ hw) q3046 q3048 qs106 zh7 q3049 q136 zn270 rfl (Nat.le_of_ble_eq_true rfl) (st := []) rfl (zcs8 (Nat.le_of_ble_eq_true rfl)) rfl (zkV (fun s36 hw => ?_)) (zout hX hR hTb)
    refine z_aload_n hX dX3_load_39 rfl (i := 0) rfl ?_
    obtain ⟨a45, f46, r47, m48, hw⟩ := hw
    refine z_invV hX hd r47 (ci := 4) rfl rfl m48 dX3_load_40 (hC 284 _ zm284 _ _ _ _ hw) q3115 q3117 qs120 zh7 q3118 q136 zn284 rfl (Nat.le_of_ble_eq_true rfl) (st := []) rfl (zcs8 (Nat.le_of_ble_eq_true rfl)) rfl (zkI (fun v42 s43 hw => ?_)) (zout hX hR hTb)
    refine z_if_eq hX dX3_load_43 (tgt := 54) rfl (fun c49 => ?_) (fun c49 => ?_)
    · have hw := hw.1 c49
      refine z_aload_n hX dX3_load_54 rfl (i := 0) rfl ?_
      obtain ⟨a51, f52, v50, r53, m54, e55, hw⟩ := hw
      refine z_get hX zc4 (k := 1) dX3_load_55 (Nat.le_of_ble_eq_true rfl) (zlk hX q2470) r53 m54 e55 ?_
      refine z_iconst hX (v := (0 : Int32)) dX3_load_58 (by decide) ?_
      refine z_aload_n hX dX3_load_59 rfl (i := 0) rfl ?_
      obtain ⟨a57, f58, v56, r59, m60, e61, hw⟩ := hw
      refine z_get hX zc4 (k := 0) dX3_load_60 (Nat.le_of_ble_eq_true rfl) (zlk hX q2469) r59 m60 e61 ?_
      refine z_iconst hX (v := (0 : Int32)) dX3_load_63 (by decide) ?_
      refine z_invS hX hd dX3_load_64 (hC 238 _ zm238 _ _ _ _ hw) q2915 q2916 zh7 q2917 q136 zn238 rfl (Nat.le_of_ble_eq_true rfl) (st := []) rfl (zcs8 (Nat.le_of_ble_eq_true rfl)) rfl (zkV (fun s63 hw => ?_)) (zout hX hR hTb)
      refine z_aload_n hX dX3_load_67 rfl (i := 0) rfl ?_
      refine z_iconst hX (v := (0 : Int32)) dX3_load_68 (by decide) ?_
      obtain ⟨a67, f68, r69, g70, m71, l72, hw⟩ := hw
      refine z_put hX zc4 (k := 4) dX3_load_69 (Nat.le_of_ble_eq_true rfl) (zlk hX q2473) rfl rfl rfl r69 g70 m71 l72 (z_nm (fun s65 e66 => ?_))
      have hw := hw s65 e66
      refine z_aload_n hX dX3_load_72 rfl (i := 0) rfl ?_
      refine z_iconst hX (v := (0 : Int32)) dX3_load_73 (by decide) ?_
      obtain ⟨b81, hw⟩ := hw
      obtain ⟨a75, f76, r77, g78, m79, l80, hw⟩ := hw
      refine z_put hX zc4 (k := 6) dX3_load_74 (Nat.le_of_ble_eq_true rfl) (zlk hX q2475) rfl (zn_z b81) (zf_z b81) r77 g78 m79 l80 (z_nm (fun s73 e74 => ?_))
      have hw := hw s73 e74
      refine z_aload_n hX dX3_load_77 rfl (i := 0) rfl ?_
      obtain ⟨a85, f86, r87, m88, hw⟩ := hw
      refine z_invV hX hd r87 (ci := 4) rfl rfl m88 dX3_load_78 (hC 159 _ zm159 _ _ _ _ hw) q2605 q2607 qs46 zh7 q2608 q136 zn159 rfl (Nat.le_of_ble_eq_true rfl) (st := []) rfl (zcs8 (Nat.le_of_ble_eq_true rfl)) rfl (zkI (fun v82 s83 hw => ?_)) (zout hX hR hTb)
      exact z_ireturn hX hR dX3_load_81 rfl hw
    · have hw := hw.2 c49
      refine z_bipush hX (v := (-10 : Int32)) dX3_load_46 (by decide) ?_
      refine z_aload_n hX dX3_load_48 rfl (i := 0) rfl ?_
      obtain ⟨a90, f91, v89, r92, m93, e94, hw⟩ := hw
      refine z_get hX zc4 (k := 33) dX3_load_49 (Nat.le_of_ble_eq_true rfl) (zlk hX q2502) r92 m93 e94 ?_
      refine z_isub hX dX3_load_52 ?_
      exact z_ireturn hX hR dX3_load_53 rfl hw
  · have hw := hw.2 c18
    refine z_aload_n hX dX3_load_17 rfl (i := 0) rfl ?_
    refine z_iconst hX (v := (1 : Int32)) dX3_load_18 (by decide) ?_
    obtain ⟨a98, f99, r100, m101, hw⟩ := hw
    refine z_invV hX hd r100 (ci := 4) rfl rfl m101 dX3_load_19 (hC 163 _ zm163 _ _ _ _ hw) q2620 q2622 qs49 zh7 q2623 q136 zn163 rfl (Nat.le_of_ble_eq_true rfl) (st := []) rfl (zcs8 (Nat.le_of_ble_eq_true rfl)) rfl (zkI (fun v95 s96 hw => ?_)) (zout hX hR hTb)
    exact z_ireturn hX hR dX3_load_22 rfl hw
abbrev cX3_startText : ByteArray := prog_28_method_115_code
def yX3_startText : MethodName := ⟨RX3, "startText", "(I)V"⟩
def dkwX3_startText_1 : List UInt8 := [177]
abbrev dktX3_startText_1 : List UInt8 := dkwX3_startText_1 ++ []
def dkwX3_startText_0 : List UInt8 := [42, 27, 181, 1, 131, 42, 3, 181, 1, 137, 42, 3, 181, 1, 152, 42, 3, 181, 1, 155, 42, 182, 1, 158]
abbrev dktX3_startText_0 : List UInt8 := dkwX3_startText_0 ++ dktX3_startText_1
theorem dksX3_startText_0 : cX3_startText.data.toList.drop 0 = dktX3_startText_0 := by decide +kernel
theorem dksX3_startText_1 : cX3_startText.data.toList.drop 24 = dktX3_startText_1 := dk_seg dksX3_startText_0 24 rfl rfl
theorem dX3_startText_0 : decode cX3_startText 0 = .ok (.aload_n 0, 1) := dk_42 (dk_at dksX3_startText_0 0 rfl rfl)
theorem dX3_startText_1 : decode cX3_startText 1 = .ok (.iload_n 1, 1) := dk_27 (dk_at dksX3_startText_0 1 rfl rfl)
theorem dX3_startText_2 : decode cX3_startText 2 = .ok (.putfield 387, 3) := dk_181 1 131 (dk_at dksX3_startText_0 2 rfl rfl)
theorem dX3_startText_5 : decode cX3_startText 5 = .ok (.aload_n 0, 1) := dk_42 (dk_at dksX3_startText_0 5 rfl rfl)
theorem dX3_startText_6 : decode cX3_startText 6 = .ok (.iconst 0, 1) := dk_3 (dk_at dksX3_startText_0 6 rfl rfl)
theorem dX3_startText_7 : decode cX3_startText 7 = .ok (.putfield 393, 3) := dk_181 1 137 (dk_at dksX3_startText_0 7 rfl rfl)
theorem dX3_startText_10 : decode cX3_startText 10 = .ok (.aload_n 0, 1) := dk_42 (dk_at dksX3_startText_0 10 rfl rfl)
theorem dX3_startText_11 : decode cX3_startText 11 = .ok (.iconst 0, 1) := dk_3 (dk_at dksX3_startText_0 11 rfl rfl)
theorem dX3_startText_12 : decode cX3_startText 12 = .ok (.putfield 408, 3) := dk_181 1 152 (dk_at dksX3_startText_0 12 rfl rfl)
theorem dX3_startText_15 : decode cX3_startText 15 = .ok (.aload_n 0, 1) := dk_42 (dk_at dksX3_startText_0 15 rfl rfl)
theorem dX3_startText_16 : decode cX3_startText 16 = .ok (.iconst 0, 1) := dk_3 (dk_at dksX3_startText_0 16 rfl rfl)
theorem dX3_startText_17 : decode cX3_startText 17 = .ok (.putfield 411, 3) := dk_181 1 155 (dk_at dksX3_startText_0 17 rfl rfl)
theorem dX3_startText_20 : decode cX3_startText 20 = .ok (.aload_n 0, 1) := dk_42 (dk_at dksX3_startText_0 20 rfl rfl)
theorem dX3_startText_21 : decode cX3_startText 21 = .ok (.invokevirtual 414, 3) := dk_182 1 158 (dk_at dksX3_startText_0 21 rfl rfl)
theorem dX3_startText_24 : decode cX3_startText 24 = .ok (.return_, 1) := dk_177 (dk_at dksX3_startText_1 0 rfl rfl)
/-- PackingDuelModel.startText(I)V -/
def zb265 (G : zPg) (C : zO) (args : List Value) (Q : zQ) (Y : zY) (σ : zS) : Prop := ∃ (a0 : Nat) (x1 : Int32), args = [.ref a0, .int x1] ∧ (zput σ G.1 (some a0) 4 29 (.int x1) (fun s1 => zput s1 G.1 (some a0) 4 30 (.int (0 : Int32)) (fun s9 => zput s9 G.1 (some a0) 4 33 (.int (0 : Int32)) (fun s17 => zput s17 G.1 (some a0) 4 36 (.int (0 : Int32)) (fun s25 => zrc s25 (some a0) 4 (fun a36 => zcl C 266 [.ref a36] Y s25 (zqV (fun s34 => Q none s34))))))))
set_option maxHeartbeats 4000000 in
theorem wk265 {l : Launch} {g : zG} {d : Nat} {C : zO} (hG : zGk g) (hC : zSound l g d C) {args : List Value} {Q : zQ} {Y : zY} {σ : zS} (hw : zb265 (zpg g) C args Q Y σ) : zMet l g (d + 1) (⟨"PackingDuelModel", "startText", "(I)V"⟩, Cond.code ⟨"PackingDuelModel", "startText", "(I)V"⟩ prog_28_method_115_code 2 (Option.none : Option FieldType)) args σ Q Y := by
  obtain ⟨a0, x1, rfl, hw⟩ := hw
  refine zof hG (by decide +kernel) [false, false] ⟨rfl, rfl, trivial⟩ (Nat.le_of_ble_eq_true rfl) (ls := [some (va_rf (some a0)), some (.int x1)]) rfl ?_
  intro X hX hR hTb hd1 hd2 hl hg hnm
  subst hl
  subst hg
  have hd : zDep X d := ⟨hd1, hd2⟩
  refine z_aload_n hX dX3_startText_0 rfl (i := 0) rfl ?_
  refine z_iload_n hX dX3_startText_1 rfl (i := 1) rfl ?_
  obtain ⟨a3, f4, r5, g6, m7, l8, hw⟩ := hw
  refine z_put hX zc4 (k := 29) dX3_startText_2 (Nat.le_of_ble_eq_true rfl) (zlk hX q2498) rfl rfl rfl r5 g6 m7 l8 (z_nm (fun s1 e2 => ?_))
  have hw := hw s1 e2
  refine z_aload_n hX dX3_startText_5 rfl (i := 0) rfl ?_
  refine z_iconst hX (v := (0 : Int32)) dX3_startText_6 (by decide) ?_
  obtain ⟨a11, f12, r13, g14, m15, l16, hw⟩ := hw
  refine z_put hX zc4 (k := 30) dX3_startText_7 (Nat.le_of_ble_eq_true rfl) (zlk hX q2499) rfl rfl rfl r13 g14 m15 l16 (z_nm (fun s9 e10 => ?_))
  have hw := hw s9 e10
  refine z_aload_n hX dX3_startText_10 rfl (i := 0) rfl ?_
  refine z_iconst hX (v := (0 : Int32)) dX3_startText_11 (by decide) ?_
  obtain ⟨a19, f20, r21, g22, m23, l24, hw⟩ := hw
  refine z_put hX zc4 (k := 33) dX3_startText_12 (Nat.le_of_ble_eq_true rfl) (zlk hX q2502) rfl rfl rfl r21 g22 m23 l24 (z_nm (fun s17 e18 => ?_))
  have hw := hw s17 e18
  refine z_aload_n hX dX3_startText_15 rfl (i := 0) rfl ?_
  refine z_iconst hX (v := (0 : Int32)) dX3_startText_16 (by decide) ?_
  obtain ⟨a27, f28, r29, g30, m31, l32, hw⟩ := hw
  refine z_put hX zc4 (k := 36) dX3_startText_17 (Nat.le_of_ble_eq_true rfl) (zlk hX q2505) rfl rfl rfl r29 g30 m31 l32 (z_nm (fun s25 e26 => ?_))
  have hw := hw s25 e26
  refine z_aload_n hX dX3_startText_20 rfl (i := 0) rfl ?_
  obtain ⟨a36, f37, r38, m39, hw⟩ := hw
  refine z_invV hX hd r38 (ci := 4) rfl rfl m39 dX3_startText_21 (hC 266 _ zm266 _ _ _ _ hw) q3030 q3032 qs102 zh7 q3033 q136 zn266 rfl (Nat.le_of_ble_eq_true rfl) (st := []) rfl (zcs8 (Nat.le_of_ble_eq_true rfl)) rfl (zkV (fun s34 hw => ?_)) (zout hX hR hTb)
  exact z_return hX hR dX3_startText_24 hw
abbrev cX3_scan : ByteArray := prog_28_method_114_code
def yX3_scan : MethodName := ⟨RX3, "scan", "()V"⟩
def dkwX3_scan_7 : List UInt8 := [181, 1, 143, 177]
abbrev dktX3_scan_7 : List UInt8 := dkwX3_scan_7 ++ []
def dkwX3_scan_6 : List UInt8 := [167, 255, 235, 42, 5, 181, 1, 143, 167, 0, 18, 42, 89, 180, 1, 137, 4, 96, 181, 1, 137, 42, 6]
abbrev dktX3_scan_6 : List UInt8 := dkwX3_scan_6 ++ dktX3_scan_7
def dkwX3_scan_5 : List UInt8 := [153, 0, 35, 42, 42, 180, 1, 137, 182, 1, 149, 153, 0, 16, 42, 89, 180, 1, 137, 4, 96, 181, 1, 137]
abbrev dktX3_scan_5 : List UInt8 := dkwX3_scan_5 ++ dktX3_scan_6
def dkwX3_scan_4 : List UInt8 := [181, 1, 137, 167, 255, 235, 42, 4, 181, 1, 143, 167, 0, 61, 42, 42, 180, 1, 137, 182, 1, 149]
abbrev dktX3_scan_4 : List UInt8 := dkwX3_scan_4 ++ dktX3_scan_5
def dkwX3_scan_3 : List UInt8 := [182, 1, 146, 153, 0, 35, 42, 42, 180, 1, 137, 182, 1, 146, 153, 0, 16, 42, 89, 180, 1, 137, 4, 96]
abbrev dktX3_scan_3 : List UInt8 := dkwX3_scan_3 ++ dktX3_scan_4
def dkwX3_scan_2 : List UInt8 := [42, 180, 1, 137, 42, 180, 1, 131, 161, 0, 11, 42, 3, 181, 1, 143, 167, 0, 104, 42, 42, 180, 1, 137]
abbrev dktX3_scan_2 : List UInt8 := dkwX3_scan_2 ++ dktX3_scan_3
def dkwX3_scan_1 : List UInt8 := [160, 0, 16, 42, 89, 180, 1, 137, 4, 96, 181, 1, 137, 167, 255, 220, 42, 42, 180, 1, 137, 181, 1, 140]
abbrev dktX3_scan_1 : List UInt8 := dkwX3_scan_1 ++ dktX3_scan_2
def dkwX3_scan_0 : List UInt8 := [42, 42, 180, 1, 137, 182, 1, 134, 16, 32, 159, 0, 16, 42, 42, 180, 1, 137, 182, 1, 134, 16, 10]
abbrev dktX3_scan_0 : List UInt8 := dkwX3_scan_0 ++ dktX3_scan_1
theorem dksX3_scan_0 : cX3_scan.data.toList.drop 0 = dktX3_scan_0 := by decide +kernel
theorem dksX3_scan_1 : cX3_scan.data.toList.drop 23 = dktX3_scan_1 := dk_seg dksX3_scan_0 23 rfl rfl
theorem dksX3_scan_2 : cX3_scan.data.toList.drop 47 = dktX3_scan_2 := dk_seg dksX3_scan_1 24 rfl rfl
theorem dksX3_scan_3 : cX3_scan.data.toList.drop 71 = dktX3_scan_3 := dk_seg dksX3_scan_2 24 rfl rfl
theorem dksX3_scan_4 : cX3_scan.data.toList.drop 95 = dktX3_scan_4 := dk_seg dksX3_scan_3 24 rfl rfl
theorem dksX3_scan_5 : cX3_scan.data.toList.drop 117 = dktX3_scan_5 := dk_seg dksX3_scan_4 22 rfl rfl
theorem dksX3_scan_6 : cX3_scan.data.toList.drop 141 = dktX3_scan_6 := dk_seg dksX3_scan_5 24 rfl rfl
theorem dksX3_scan_7 : cX3_scan.data.toList.drop 164 = dktX3_scan_7 := dk_seg dksX3_scan_6 23 rfl rfl
theorem dX3_scan_0 : decode cX3_scan 0 = .ok (.aload_n 0, 1) := dk_42 (dk_at dksX3_scan_0 0 rfl rfl)
theorem dX3_scan_1 : decode cX3_scan 1 = .ok (.aload_n 0, 1) := dk_42 (dk_at dksX3_scan_0 1 rfl rfl)
theorem dX3_scan_2 : decode cX3_scan 2 = .ok (.getfield 393, 3) := dk_180 1 137 (dk_at dksX3_scan_0 2 rfl rfl)
theorem dX3_scan_5 : decode cX3_scan 5 = .ok (.invokevirtual 390, 3) := dk_182 1 134 (dk_at dksX3_scan_0 5 rfl rfl)
theorem dX3_scan_8 : decode cX3_scan 8 = .ok (.bipush 32, 2) := dk_16 32 (dk_at dksX3_scan_0 8 rfl rfl)
theorem dX3_scan_10 : decode cX3_scan 10 = .ok (.if_icmp .eq 16, 3) := dk_159 0 16 (dk_at dksX3_scan_0 10 rfl rfl)
theorem dX3_scan_13 : decode cX3_scan 13 = .ok (.aload_n 0, 1) := dk_42 (dk_at dksX3_scan_0 13 rfl rfl)
theorem dX3_scan_14 : decode cX3_scan 14 = .ok (.aload_n 0, 1) := dk_42 (dk_at dksX3_scan_0 14 rfl rfl)
theorem dX3_scan_15 : decode cX3_scan 15 = .ok (.getfield 393, 3) := dk_180 1 137 (dk_at dksX3_scan_0 15 rfl rfl)
theorem dX3_scan_18 : decode cX3_scan 18 = .ok (.invokevirtual 390, 3) := dk_182 1 134 (dk_at dksX3_scan_0 18 rfl rfl)
theorem dX3_scan_21 : decode cX3_scan 21 = .ok (.bipush 10, 2) := dk_16 10 (dk_at dksX3_scan_0 21 rfl rfl)
theorem dX3_scan_23 : decode cX3_scan 23 = .ok (.if_icmp .ne 16, 3) := dk_160 0 16 (dk_at dksX3_scan_1 0 rfl rfl)
theorem dX3_scan_26 : decode cX3_scan 26 = .ok (.aload_n 0, 1) := dk_42 (dk_at dksX3_scan_1 3 rfl rfl)
theorem dX3_scan_27 : decode cX3_scan 27 = .ok (.dup, 1) := dk_89 (dk_at dksX3_scan_1 4 rfl rfl)
theorem dX3_scan_28 : decode cX3_scan 28 = .ok (.getfield 393, 3) := dk_180 1 137 (dk_at dksX3_scan_1 5 rfl rfl)
theorem dX3_scan_31 : decode cX3_scan 31 = .ok (.iconst 1, 1) := dk_4 (dk_at dksX3_scan_1 8 rfl rfl)
theorem dX3_scan_32 : decode cX3_scan 32 = .ok (.iadd, 1) := dk_96 (dk_at dksX3_scan_1 9 rfl rfl)
theorem dX3_scan_33 : decode cX3_scan 33 = .ok (.putfield 393, 3) := dk_181 1 137 (dk_at dksX3_scan_1 10 rfl rfl)
theorem dX3_scan_36 : decode cX3_scan 36 = .ok (.goto (-36), 3) := dk_167 255 220 (dk_at dksX3_scan_1 13 rfl rfl)
theorem dX3_scan_39 : decode cX3_scan 39 = .ok (.aload_n 0, 1) := dk_42 (dk_at dksX3_scan_1 16 rfl rfl)
theorem dX3_scan_40 : decode cX3_scan 40 = .ok (.aload_n 0, 1) := dk_42 (dk_at dksX3_scan_1 17 rfl rfl)
theorem dX3_scan_41 : decode cX3_scan 41 = .ok (.getfield 393, 3) := dk_180 1 137 (dk_at dksX3_scan_1 18 rfl rfl)
theorem dX3_scan_44 : decode cX3_scan 44 = .ok (.putfield 396, 3) := dk_181 1 140 (dk_at dksX3_scan_1 21 rfl rfl)
theorem dX3_scan_47 : decode cX3_scan 47 = .ok (.aload_n 0, 1) := dk_42 (dk_at dksX3_scan_2 0 rfl rfl)
theorem dX3_scan_48 : decode cX3_scan 48 = .ok (.getfield 393, 3) := dk_180 1 137 (dk_at dksX3_scan_2 1 rfl rfl)
theorem dX3_scan_51 : decode cX3_scan 51 = .ok (.aload_n 0, 1) := dk_42 (dk_at dksX3_scan_2 4 rfl rfl)
theorem dX3_scan_52 : decode cX3_scan 52 = .ok (.getfield 387, 3) := dk_180 1 131 (dk_at dksX3_scan_2 5 rfl rfl)
theorem dX3_scan_55 : decode cX3_scan 55 = .ok (.if_icmp .lt 11, 3) := dk_161 0 11 (dk_at dksX3_scan_2 8 rfl rfl)
theorem dX3_scan_58 : decode cX3_scan 58 = .ok (.aload_n 0, 1) := dk_42 (dk_at dksX3_scan_2 11 rfl rfl)
theorem dX3_scan_59 : decode cX3_scan 59 = .ok (.iconst 0, 1) := dk_3 (dk_at dksX3_scan_2 12 rfl rfl)
theorem dX3_scan_60 : decode cX3_scan 60 = .ok (.putfield 399, 3) := dk_181 1 143 (dk_at dksX3_scan_2 13 rfl rfl)
theorem dX3_scan_63 : decode cX3_scan 63 = .ok (.goto 104, 3) := dk_167 0 104 (dk_at dksX3_scan_2 16 rfl rfl)
theorem dX3_scan_66 : decode cX3_scan 66 = .ok (.aload_n 0, 1) := dk_42 (dk_at dksX3_scan_2 19 rfl rfl)
theorem dX3_scan_67 : decode cX3_scan 67 = .ok (.aload_n 0, 1) := dk_42 (dk_at dksX3_scan_2 20 rfl rfl)
theorem dX3_scan_68 : decode cX3_scan 68 = .ok (.getfield 393, 3) := dk_180 1 137 (dk_at dksX3_scan_2 21 rfl rfl)
theorem dX3_scan_71 : decode cX3_scan 71 = .ok (.invokevirtual 402, 3) := dk_182 1 146 (dk_at dksX3_scan_3 0 rfl rfl)
theorem dX3_scan_74 : decode cX3_scan 74 = .ok (.ifCond .eq 35, 3) := dk_153 0 35 (dk_at dksX3_scan_3 3 rfl rfl)
theorem dX3_scan_77 : decode cX3_scan 77 = .ok (.aload_n 0, 1) := dk_42 (dk_at dksX3_scan_3 6 rfl rfl)
theorem dX3_scan_78 : decode cX3_scan 78 = .ok (.aload_n 0, 1) := dk_42 (dk_at dksX3_scan_3 7 rfl rfl)
theorem dX3_scan_79 : decode cX3_scan 79 = .ok (.getfield 393, 3) := dk_180 1 137 (dk_at dksX3_scan_3 8 rfl rfl)
theorem dX3_scan_82 : decode cX3_scan 82 = .ok (.invokevirtual 402, 3) := dk_182 1 146 (dk_at dksX3_scan_3 11 rfl rfl)
theorem dX3_scan_85 : decode cX3_scan 85 = .ok (.ifCond .eq 16, 3) := dk_153 0 16 (dk_at dksX3_scan_3 14 rfl rfl)
theorem dX3_scan_88 : decode cX3_scan 88 = .ok (.aload_n 0, 1) := dk_42 (dk_at dksX3_scan_3 17 rfl rfl)
theorem dX3_scan_89 : decode cX3_scan 89 = .ok (.dup, 1) := dk_89 (dk_at dksX3_scan_3 18 rfl rfl)
theorem dX3_scan_90 : decode cX3_scan 90 = .ok (.getfield 393, 3) := dk_180 1 137 (dk_at dksX3_scan_3 19 rfl rfl)
theorem dX3_scan_93 : decode cX3_scan 93 = .ok (.iconst 1, 1) := dk_4 (dk_at dksX3_scan_3 22 rfl rfl)
theorem dX3_scan_94 : decode cX3_scan 94 = .ok (.iadd, 1) := dk_96 (dk_at dksX3_scan_3 23 rfl rfl)
theorem dX3_scan_95 : decode cX3_scan 95 = .ok (.putfield 393, 3) := dk_181 1 137 (dk_at dksX3_scan_4 0 rfl rfl)
theorem dX3_scan_98 : decode cX3_scan 98 = .ok (.goto (-21), 3) := dk_167 255 235 (dk_at dksX3_scan_4 3 rfl rfl)
theorem dX3_scan_101 : decode cX3_scan 101 = .ok (.aload_n 0, 1) := dk_42 (dk_at dksX3_scan_4 6 rfl rfl)
theorem dX3_scan_102 : decode cX3_scan 102 = .ok (.iconst 1, 1) := dk_4 (dk_at dksX3_scan_4 7 rfl rfl)
theorem dX3_scan_103 : decode cX3_scan 103 = .ok (.putfield 399, 3) := dk_181 1 143 (dk_at dksX3_scan_4 8 rfl rfl)
theorem dX3_scan_106 : decode cX3_scan 106 = .ok (.goto 61, 3) := dk_167 0 61 (dk_at dksX3_scan_4 11 rfl rfl)
theorem dX3_scan_109 : decode cX3_scan 109 = .ok (.aload_n 0, 1) := dk_42 (dk_at dksX3_scan_4 14 rfl rfl)
theorem dX3_scan_110 : decode cX3_scan 110 = .ok (.aload_n 0, 1) := dk_42 (dk_at dksX3_scan_4 15 rfl rfl)
theorem dX3_scan_111 : decode cX3_scan 111 = .ok (.getfield 393, 3) := dk_180 1 137 (dk_at dksX3_scan_4 16 rfl rfl)
theorem dX3_scan_114 : decode cX3_scan 114 = .ok (.invokevirtual 405, 3) := dk_182 1 149 (dk_at dksX3_scan_4 19 rfl rfl)
theorem dX3_scan_117 : decode cX3_scan 117 = .ok (.ifCond .eq 35, 3) := dk_153 0 35 (dk_at dksX3_scan_5 0 rfl rfl)
theorem dX3_scan_120 : decode cX3_scan 120 = .ok (.aload_n 0, 1) := dk_42 (dk_at dksX3_scan_5 3 rfl rfl)
theorem dX3_scan_121 : decode cX3_scan 121 = .ok (.aload_n 0, 1) := dk_42 (dk_at dksX3_scan_5 4 rfl rfl)
theorem dX3_scan_122 : decode cX3_scan 122 = .ok (.getfield 393, 3) := dk_180 1 137 (dk_at dksX3_scan_5 5 rfl rfl)
theorem dX3_scan_125 : decode cX3_scan 125 = .ok (.invokevirtual 405, 3) := dk_182 1 149 (dk_at dksX3_scan_5 8 rfl rfl)
theorem dX3_scan_128 : decode cX3_scan 128 = .ok (.ifCond .eq 16, 3) := dk_153 0 16 (dk_at dksX3_scan_5 11 rfl rfl)
theorem dX3_scan_131 : decode cX3_scan 131 = .ok (.aload_n 0, 1) := dk_42 (dk_at dksX3_scan_5 14 rfl rfl)
theorem dX3_scan_132 : decode cX3_scan 132 = .ok (.dup, 1) := dk_89 (dk_at dksX3_scan_5 15 rfl rfl)
theorem dX3_scan_133 : decode cX3_scan 133 = .ok (.getfield 393, 3) := dk_180 1 137 (dk_at dksX3_scan_5 16 rfl rfl)
theorem dX3_scan_136 : decode cX3_scan 136 = .ok (.iconst 1, 1) := dk_4 (dk_at dksX3_scan_5 19 rfl rfl)
theorem dX3_scan_137 : decode cX3_scan 137 = .ok (.iadd, 1) := dk_96 (dk_at dksX3_scan_5 20 rfl rfl)
theorem dX3_scan_138 : decode cX3_scan 138 = .ok (.putfield 393, 3) := dk_181 1 137 (dk_at dksX3_scan_5 21 rfl rfl)
theorem dX3_scan_141 : decode cX3_scan 141 = .ok (.goto (-21), 3) := dk_167 255 235 (dk_at dksX3_scan_6 0 rfl rfl)
theorem dX3_scan_144 : decode cX3_scan 144 = .ok (.aload_n 0, 1) := dk_42 (dk_at dksX3_scan_6 3 rfl rfl)
theorem dX3_scan_145 : decode cX3_scan 145 = .ok (.iconst 2, 1) := dk_5 (dk_at dksX3_scan_6 4 rfl rfl)
theorem dX3_scan_146 : decode cX3_scan 146 = .ok (.putfield 399, 3) := dk_181 1 143 (dk_at dksX3_scan_6 5 rfl rfl)
theorem dX3_scan_149 : decode cX3_scan 149 = .ok (.goto 18, 3) := dk_167 0 18 (dk_at dksX3_scan_6 8 rfl rfl)
theorem dX3_scan_152 : decode cX3_scan 152 = .ok (.aload_n 0, 1) := dk_42 (dk_at dksX3_scan_6 11 rfl rfl)
theorem dX3_scan_153 : decode cX3_scan 153 = .ok (.dup, 1) := dk_89 (dk_at dksX3_scan_6 12 rfl rfl)
theorem dX3_scan_154 : decode cX3_scan 154 = .ok (.getfield 393, 3) := dk_180 1 137 (dk_at dksX3_scan_6 13 rfl rfl)
theorem dX3_scan_157 : decode cX3_scan 157 = .ok (.iconst 1, 1) := dk_4 (dk_at dksX3_scan_6 16 rfl rfl)
theorem dX3_scan_158 : decode cX3_scan 158 = .ok (.iadd, 1) := dk_96 (dk_at dksX3_scan_6 17 rfl rfl)
theorem dX3_scan_159 : decode cX3_scan 159 = .ok (.putfield 393, 3) := dk_181 1 137 (dk_at dksX3_scan_6 18 rfl rfl)
theorem dX3_scan_162 : decode cX3_scan 162 = .ok (.aload_n 0, 1) := dk_42 (dk_at dksX3_scan_6 21 rfl rfl)
theorem dX3_scan_163 : decode cX3_scan 163 = .ok (.iconst 3, 1) := dk_6 (dk_at dksX3_scan_6 22 rfl rfl)
theorem dX3_scan_164 : decode cX3_scan 164 = .ok (.putfield 399, 3) := dk_181 1 143 (dk_at dksX3_scan_7 0 rfl rfl)
theorem dX3_scan_167 : decode cX3_scan 167 = .ok (.return_, 1) := dk_177 (dk_at dksX3_scan_7 3 rfl rfl)
/-- PackingDuelModel.scan()V -/
def zb266 (G : zPg) (C : zO) (args : List Value) (Q : zQ) (Y : zY) (σ : zS) : Prop := ∃ (a0 : Nat), args = [.ref a0] ∧ (∃ n, zIt (fun  _ => False) (fun rec2  (s1 : zS) => zgI s1 (some a0) 4 30 (fun v3 => zrc s1 (some a0) 4 (fun a12 => zcl C 267 [.ref a12, .int v3] Y s1 (zqI (fun v9 s10 => zJ (fun  (s16 : zS) => zgI s16 (some a0) 4 30 (fun v18 => zput s16 G.1 (some a0) 4 30 (.int (v18 + (1 : Int32))) (fun s24 => rec2 s24))) (fun (j17 : zS → Prop) => ((v9 = (32 : Int32)) → j17 s10) ∧ ((¬ v9 = (32 : Int32)) → zgI s10 (some a0) 4 30 (fun v33 => zrc s10 (some a0) 4 (fun a42 => zcl C 267 [.ref a42, .int v33] Y s10 (zqI (fun v39 s40 => ((¬ v39 = (10 : Int32)) → zgI s40 (some a0) 4 30 (fun v47 => zput s40 G.1 (some a0) 4 31 (.int v47) (fun s53 => zgI s53 (some a0) 4 30 (fun v61 => zgI s53 (some a0) 4 29 (fun v67 => zJ (fun  (s73 : zS) => Q none s73) (fun (j74 : zS → Prop) => ((v61 < v67) → zgI s53 (some a0) 4 30 (fun v76 => zrc s53 (some a0) 4 (fun a85 => zcl C 268 [.ref a85, .int v76] Y s53 (zqI (fun v82 s83 => ((v82 = 0) → zgI s83 (some a0) 4 30 (fun v90 => zrc s83 (some a0) 4 (fun a99 => zcl C 269 [.ref a99, .int v90] Y s83 (zqI (fun v96 s97 => ((v96 = 0) → zgI s97 (some a0) 4 30 (fun v104 => zput s97 G.1 (some a0) 4 30 (.int (v104 + (1 : Int32))) (fun s110 => zput s110 G.1 (some a0) 4 32 (.int (3 : Int32)) (fun s118 => j74 s118)))) ∧ ((¬ v96 = 0) → ∃ n, zIt (fun  _ => False) (fun rec127  (s126 : zS) => zgI s126 (some a0) 4 30 (fun v128 => zrc s126 (some a0) 4 (fun a137 => zcl C 269 [.ref a137, .int v128] Y s126 (zqI (fun v134 s135 => ((v134 = 0) → zput s135 G.1 (some a0) 4 32 (.int (2 : Int32)) (fun s142 => j74 s142)) ∧ ((¬ v134 = 0) → zgI s135 (some a0) 4 30 (fun v150 => zput s135 G.1 (some a0) 4 30 (.int (v150 + (1 : Int32))) (fun s156 => rec127 s156)))))))) n  s97)))))) ∧ ((¬ v82 = 0) → ∃ n, zIt (fun  _ => False) (fun rec166  (s165 : zS) => zgI s165 (some a0) 4 30 (fun v167 => zrc s165 (some a0) 4 (fun a176 => zcl C 268 [.ref a176, .int v167] Y s165 (zqI (fun v173 s174 => ((v173 = 0) → zput s174 G.1 (some a0) 4 32 (.int (1 : Int32)) (fun s181 => j74 s181)) ∧ ((¬ v173 = 0) → zgI s174 (some a0) 4 30 (fun v189 => zput s174 G.1 (some a0) 4 30 (.int (v189 + (1 : Int32))) (fun s195 => rec166 s195)))))))) n  s83)))))) ∧ ((¬ v61 < v67) → zput s53 G.1 (some a0) 4 32 (.int (0 : Int32)) (fun s204 => j74 s204)))))))) ∧ ((v39 = (10 : Int32)) → j17 s40)))))))))))) n  σ)
set_option maxHeartbeats 4000000 in
theorem wk266 {l : Launch} {g : zG} {d : Nat} {C : zO} (hG : zGk g) (hC : zSound l g d C) {args : List Value} {Q : zQ} {Y : zY} {σ : zS} (hw : zb266 (zpg g) C args Q Y σ) : zMet l g (d + 1) (⟨"PackingDuelModel", "scan", "()V"⟩, Cond.code ⟨"PackingDuelModel", "scan", "()V"⟩ prog_28_method_114_code 1 (Option.none : Option FieldType)) args σ Q Y := by
  obtain ⟨a0, rfl, hw⟩ := hw
  refine zof hG (by decide +kernel) [false] ⟨rfl, trivial⟩ (Nat.le_of_ble_eq_true rfl) (ls := [some (va_rf (some a0))]) rfl ?_
  intro X hX hR hTb hd1 hd2 hl hg hnm
  subst hl
  subst hg
  have hd : zDep X d := ⟨hd1, hd2⟩
  obtain ⟨n212, hw⟩ := hw
  refine zIt_w (P := fun (j : zS → Prop) => ∀  (s1 : zS), j  s1 → zW X s1 0 [some (va_rf (some a0))] []) (fun  _ h => h.elim) (fun rec2 hrec2  s1 hw => ?_) n212  _ hw
  refine z_aload_n hX dX3_scan_0 rfl (i := 0) rfl ?_
  refine z_aload_n hX dX3_scan_1 rfl (i := 0) rfl ?_
  obtain ⟨a4, f5, v3, r6, m7, e8, hw⟩ := hw
  refine z_get hX zc4 (k := 30) dX3_scan_2 (Nat.le_of_ble_eq_true rfl) (zlk hX q2499) r6 m7 e8 ?_
  obtain ⟨a12, f13, r14, m15, hw⟩ := hw
  refine z_invV hX hd r14 (ci := 4) rfl rfl m15 dX3_scan_5 (hC 267 _ zm267 _ _ _ _ hw) q3034 q3036 qs103 zh7 q3037 q136 zn267 rfl (Nat.le_of_ble_eq_true rfl) (st := []) rfl (zcs8 (Nat.le_of_ble_eq_true rfl)) rfl (zkI (fun v9 s10 hw => ?_)) (zout hX hR hTb)
  refine z_bipush hX (v := (32 : Int32)) dX3_scan_8 (by decide) ?_
  refine zJ_w (P := fun (j : zS → Prop) => ∀  (s16 : zS), j  s16 → zW X s16 26 [some (va_rf (some a0))] []) hw (fun  s16 hw => ?_) (fun j17 hj17 hw => ?_)
  · refine z_aload_n hX dX3_scan_26 rfl (i := 0) rfl ?_
    refine z_dup hX dX3_scan_27 (zc_rf _) ?_
    obtain ⟨a19, f20, v18, r21, m22, e23, hw⟩ := hw
    refine z_get hX zc4 (k := 30) dX3_scan_28 (Nat.le_of_ble_eq_true rfl) (zlk hX q2499) r21 m22 e23 ?_
    refine z_iconst hX (v := (1 : Int32)) dX3_scan_31 (by decide) ?_
    refine z_iadd hX dX3_scan_32 ?_
    obtain ⟨a26, f27, r28, g29, m30, l31, hw⟩ := hw
    refine z_put hX zc4 (k := 30) dX3_scan_33 (Nat.le_of_ble_eq_true rfl) (zlk hX q2499) rfl rfl rfl r28 g29 m30 l31 (z_nm (fun s24 e25 => ?_))
    have hw := hw s24 e25
    refine z_goto hX dX3_scan_36 (tgt := 0) rfl ?_
    exact hrec2  _ hw
  · refine z_icmp_eq hX dX3_scan_10 (tgt := 26) rfl (fun c32 => ?_) (fun c32 => ?_)
    · have hw := hw.1 c32
      exact hj17  _ hw
    · have hw := hw.2 c32
      refine z_aload_n hX dX3_scan_13 rfl (i := 0) rfl ?_
      refine z_aload_n hX dX3_scan_14 rfl (i := 0) rfl ?_
      obtain ⟨a34, f35, v33, r36, m37, e38, hw⟩ := hw
      refine z_get hX zc4 (k := 30) dX3_scan_15 (Nat.le_of_ble_eq_true rfl) (zlk hX q2499) r36 m37 e38 ?_
      obtain ⟨a42, f43, r44, m45, hw⟩ := hw
      refine z_invV hX hd r44 (ci := 4) rfl rfl m45 dX3_scan_18 (hC 267 _ zm267 _ _ _ _ hw) q3034 q3036 qs103 zh7 q3037 q136 zn267 rfl (Nat.le_of_ble_eq_true rfl) (st := []) rfl (zcs8 (Nat.le_of_ble_eq_true rfl)) rfl (zkI (fun v39 s40 hw => ?_)) (zout hX hR hTb)
      refine z_bipush hX (v := (10 : Int32)) dX3_scan_21 (by decide) ?_
      refine z_icmp_ne hX dX3_scan_23 (tgt := 39) rfl (fun c46 => ?_) (fun c46 => ?_)
      · have hw := hw.1 c46
        refine z_aload_n hX dX3_scan_39 rfl (i := 0) rfl ?_
        refine z_aload_n hX dX3_scan_40 rfl (i := 0) rfl ?_
        obtain ⟨a48, f49, v47, r50, m51, e52, hw⟩ := hw
        refine z_get hX zc4 (k := 30) dX3_scan_41 (Nat.le_of_ble_eq_true rfl) (zlk hX q2499) r50 m51 e52 ?_
        obtain ⟨a55, f56, r57, g58, m59, l60, hw⟩ := hw
        refine z_put hX zc4 (k := 31) dX3_scan_44 (Nat.le_of_ble_eq_true rfl) (zlk hX q2500) rfl rfl rfl r57 g58 m59 l60 (z_nm (fun s53 e54 => ?_))
        have hw := hw s53 e54
        refine z_aload_n hX dX3_scan_47 rfl (i := 0) rfl ?_
        obtain ⟨a62, f63, v61, r64, m65, e66, hw⟩ := hw
        refine z_get hX zc4 (k := 30) dX3_scan_48 (Nat.le_of_ble_eq_true rfl) (zlk hX q2499) r64 m65 e66 ?_
        refine z_aload_n hX dX3_scan_51 rfl (i := 0) rfl ?_
        obtain ⟨a68, f69, v67, r70, m71, e72, hw⟩ := hw
        refine z_get hX zc4 (k := 29) dX3_scan_52 (Nat.le_of_ble_eq_true rfl) (zlk hX q2498) r70 m71 e72 ?_
        refine zJ_w (P := fun (j : zS → Prop) => ∀  (s73 : zS), j  s73 → zW X s73 167 [none] []) hw (fun  s73 hw => ?_) (fun j74 hj74 hw => ?_)
        · exact z_return hX hR dX3_scan_167 hw
        · refine z_icmp_lt hX dX3_scan_55 (tgt := 66) rfl (fun c75 => ?_) (fun c75 => ?_)
          · have hw := hw.1 c75
            refine z_aload_n hX dX3_scan_66 rfl (i := 0) rfl ?_
            refine z_aload_n hX dX3_scan_67 rfl (i := 0) rfl ?_
            obtain ⟨a77, f78, v76, r79, m80, e81, hw⟩ := hw
            refine z_get hX zc4 (k := 30) dX3_scan_68 (Nat.le_of_ble_eq_true rfl) (zlk hX q2499) r79 m80 e81 ?_
            obtain ⟨a85, f86, r87, m88, hw⟩ := hw
            refine z_invV hX hd r87 (ci := 4) rfl rfl m88 dX3_scan_71 (hC 268 _ zm268 _ _ _ _ hw) q3038 q3040 qs104 zh7 q3041 q136 zn268 rfl (Nat.le_of_ble_eq_true rfl) (st := []) rfl (zcs8 (Nat.le_of_ble_eq_true rfl)) rfl (zkI (fun v82 s83 hw => ?_)) (zout hX hR hTb)
            refine z_if_eq hX dX3_scan_74 (tgt := 109) rfl (fun c89 => ?_) (fun c89 => ?_)
            · have hw := hw.1 c89
              refine z_aload_n hX dX3_scan_109 rfl (i := 0) rfl ?_
              refine z_aload_n hX dX3_scan_110 rfl (i := 0) rfl ?_
              obtain ⟨a91, f92, v90, r93, m94, e95, hw⟩ := hw
              refine z_get hX zc4 (k := 30) dX3_scan_111 (Nat.le_of_ble_eq_true rfl) (zlk hX q2499) r93 m94 e95 ?_
              obtain ⟨a99, f100, r101, m102, hw⟩ := hw
              refine z_invV hX hd r101 (ci := 4) rfl rfl m102 dX3_scan_114 (hC 269 _ zm269 _ _ _ _ hw) q3042 q3044 qs105 zh7 q3045 q136 zn269 rfl (Nat.le_of_ble_eq_true rfl) (st := []) rfl (zcs8 (Nat.le_of_ble_eq_true rfl)) rfl (zkI (fun v96 s97 hw => ?_)) (zout hX hR hTb)
              refine z_if_eq hX dX3_scan_117 (tgt := 152) rfl (fun c103 => ?_) (fun c103 => ?_)
              · have hw := hw.1 c103
                refine z_aload_n hX dX3_scan_152 rfl (i := 0) rfl ?_
                refine z_dup hX dX3_scan_153 (zc_rf _) ?_
                obtain ⟨a105, f106, v104, r107, m108, e109, hw⟩ := hw
                refine z_get hX zc4 (k := 30) dX3_scan_154 (Nat.le_of_ble_eq_true rfl) (zlk hX q2499) r107 m108 e109 ?_
                refine z_iconst hX (v := (1 : Int32)) dX3_scan_157 (by decide) ?_
                refine z_iadd hX dX3_scan_158 ?_
                obtain ⟨a112, f113, r114, g115, m116, l117, hw⟩ := hw
                refine z_put hX zc4 (k := 30) dX3_scan_159 (Nat.le_of_ble_eq_true rfl) (zlk hX q2499) rfl rfl rfl r114 g115 m116 l117 (z_nm (fun s110 e111 => ?_))
                have hw := hw s110 e111
                refine z_aload_n hX dX3_scan_162 rfl (i := 0) rfl ?_
                refine z_iconst hX (v := (3 : Int32)) dX3_scan_163 (by decide) ?_
                obtain ⟨a120, f121, r122, g123, m124, l125, hw⟩ := hw
                refine z_put hX zc4 (k := 32) dX3_scan_164 (Nat.le_of_ble_eq_true rfl) (zlk hX q2501) rfl rfl rfl r122 g123 m124 l125 (z_nm (fun s118 e119 => ?_))
                have hw := hw s118 e119
                refine z_sub (ls' := [none]) (zsN (zs0)) ?_
                exact hj74  _ hw
              · have hw := hw.2 c103
                obtain ⟨n164, hw⟩ := hw
                refine zIt_w (P := fun (j : zS → Prop) => ∀  (s126 : zS), j  s126 → zW X s126 120 [some (va_rf (some a0))] []) (fun  _ h => h.elim) (fun rec127 hrec127  s126 hw => ?_) n164  _ hw
                refine z_aload_n hX dX3_scan_120 rfl (i := 0) rfl ?_
                refine z_aload_n hX dX3_scan_121 rfl (i := 0) rfl ?_
                obtain ⟨a129, f130, v128, r131, m132, e133, hw⟩ := hw
                refine z_get hX zc4 (k := 30) dX3_scan_122 (Nat.le_of_ble_eq_true rfl) (zlk hX q2499) r131 m132 e133 ?_
                obtain ⟨a137, f138, r139, m140, hw⟩ := hw
                refine z_invV hX hd r139 (ci := 4) rfl rfl m140 dX3_scan_125 (hC 269 _ zm269 _ _ _ _ hw) q3042 q3044 qs105 zh7 q3045 q136 zn269 rfl (Nat.le_of_ble_eq_true rfl) (st := []) rfl (zcs8 (Nat.le_of_ble_eq_true rfl)) rfl (zkI (fun v134 s135 hw => ?_)) (zout hX hR hTb)
                refine z_if_eq hX dX3_scan_128 (tgt := 144) rfl (fun c141 => ?_) (fun c141 => ?_)
                · have hw := hw.1 c141
                  refine z_aload_n hX dX3_scan_144 rfl (i := 0) rfl ?_
                  refine z_iconst hX (v := (2 : Int32)) dX3_scan_145 (by decide) ?_
                  obtain ⟨a144, f145, r146, g147, m148, l149, hw⟩ := hw
                  refine z_put hX zc4 (k := 32) dX3_scan_146 (Nat.le_of_ble_eq_true rfl) (zlk hX q2501) rfl rfl rfl r146 g147 m148 l149 (z_nm (fun s142 e143 => ?_))
                  have hw := hw s142 e143
                  refine z_goto hX dX3_scan_149 (tgt := 167) rfl ?_
                  refine z_sub (ls' := [none]) (zsN (zs0)) ?_
                  exact hj74  _ hw
                · have hw := hw.2 c141
                  refine z_aload_n hX dX3_scan_131 rfl (i := 0) rfl ?_
                  refine z_dup hX dX3_scan_132 (zc_rf _) ?_
                  obtain ⟨a151, f152, v150, r153, m154, e155, hw⟩ := hw
                  refine z_get hX zc4 (k := 30) dX3_scan_133 (Nat.le_of_ble_eq_true rfl) (zlk hX q2499) r153 m154 e155 ?_
                  refine z_iconst hX (v := (1 : Int32)) dX3_scan_136 (by decide) ?_
                  refine z_iadd hX dX3_scan_137 ?_
                  obtain ⟨a158, f159, r160, g161, m162, l163, hw⟩ := hw
                  refine z_put hX zc4 (k := 30) dX3_scan_138 (Nat.le_of_ble_eq_true rfl) (zlk hX q2499) rfl rfl rfl r160 g161 m162 l163 (z_nm (fun s156 e157 => ?_))
                  have hw := hw s156 e157
                  refine z_goto hX dX3_scan_141 (tgt := 120) rfl ?_
                  exact hrec127  _ hw
            · have hw := hw.2 c89
              obtain ⟨n203, hw⟩ := hw
              refine zIt_w (P := fun (j : zS → Prop) => ∀  (s165 : zS), j  s165 → zW X s165 77 [some (va_rf (some a0))] []) (fun  _ h => h.elim) (fun rec166 hrec166  s165 hw => ?_) n203  _ hw
              refine z_aload_n hX dX3_scan_77 rfl (i := 0) rfl ?_
              refine z_aload_n hX dX3_scan_78 rfl (i := 0) rfl ?_
              obtain ⟨a168, f169, v167, r170, m171, e172, hw⟩ := hw
              refine z_get hX zc4 (k := 30) dX3_scan_79 (Nat.le_of_ble_eq_true rfl) (zlk hX q2499) r170 m171 e172 ?_
              obtain ⟨a176, f177, r178, m179, hw⟩ := hw
              refine z_invV hX hd r178 (ci := 4) rfl rfl m179 dX3_scan_82 (hC 268 _ zm268 _ _ _ _ hw) q3038 q3040 qs104 zh7 q3041 q136 zn268 rfl (Nat.le_of_ble_eq_true rfl) (st := []) rfl (zcs8 (Nat.le_of_ble_eq_true rfl)) rfl (zkI (fun v173 s174 hw => ?_)) (zout hX hR hTb)
              refine z_if_eq hX dX3_scan_85 (tgt := 101) rfl (fun c180 => ?_) (fun c180 => ?_)
              · have hw := hw.1 c180
                refine z_aload_n hX dX3_scan_101 rfl (i := 0) rfl ?_
                refine z_iconst hX (v := (1 : Int32)) dX3_scan_102 (by decide) ?_
                obtain ⟨a183, f184, r185, g186, m187, l188, hw⟩ := hw
                refine z_put hX zc4 (k := 32) dX3_scan_103 (Nat.le_of_ble_eq_true rfl) (zlk hX q2501) rfl rfl rfl r185 g186 m187 l188 (z_nm (fun s181 e182 => ?_))
                have hw := hw s181 e182
                refine z_goto hX dX3_scan_106 (tgt := 167) rfl ?_
                refine z_sub (ls' := [none]) (zsN (zs0)) ?_
                exact hj74  _ hw
              · have hw := hw.2 c180
                refine z_aload_n hX dX3_scan_88 rfl (i := 0) rfl ?_
                refine z_dup hX dX3_scan_89 (zc_rf _) ?_
                obtain ⟨a190, f191, v189, r192, m193, e194, hw⟩ := hw
                refine z_get hX zc4 (k := 30) dX3_scan_90 (Nat.le_of_ble_eq_true rfl) (zlk hX q2499) r192 m193 e194 ?_
                refine z_iconst hX (v := (1 : Int32)) dX3_scan_93 (by decide) ?_
                refine z_iadd hX dX3_scan_94 ?_
                obtain ⟨a197, f198, r199, g200, m201, l202, hw⟩ := hw
                refine z_put hX zc4 (k := 30) dX3_scan_95 (Nat.le_of_ble_eq_true rfl) (zlk hX q2499) rfl rfl rfl r199 g200 m201 l202 (z_nm (fun s195 e196 => ?_))
                have hw := hw s195 e196
                refine z_goto hX dX3_scan_98 (tgt := 77) rfl ?_
                exact hrec166  _ hw
          · have hw := hw.2 c75
            refine z_aload_n hX dX3_scan_58 rfl (i := 0) rfl ?_
            refine z_iconst hX (v := (0 : Int32)) dX3_scan_59 (by decide) ?_
            obtain ⟨a206, f207, r208, g209, m210, l211, hw⟩ := hw
            refine z_put hX zc4 (k := 32) dX3_scan_60 (Nat.le_of_ble_eq_true rfl) (zlk hX q2501) rfl rfl rfl r208 g209 m210 l211 (z_nm (fun s204 e205 => ?_))
            have hw := hw s204 e205
            refine z_goto hX dX3_scan_63 (tgt := 167) rfl ?_
            refine z_sub (ls' := [none]) (zsN (zs0)) ?_
            exact hj74  _ hw
      · have hw := hw.2 c46
        exact hj17  _ hw
abbrev cX3_byteAt : ByteArray := prog_28_method_111_code
def yX3_byteAt : MethodName := ⟨RX3, "byteAt", "(I)I"⟩
def dkwX3_byteAt_0 : List UInt8 := [27, 42, 180, 1, 131, 162, 0, 12, 42, 180, 0, 62, 27, 46, 167, 0, 4, 2, 172]
abbrev dktX3_byteAt_0 : List UInt8 := dkwX3_byteAt_0 ++ []
theorem dksX3_byteAt_0 : cX3_byteAt.data.toList.drop 0 = dktX3_byteAt_0 := by decide +kernel
theorem dX3_byteAt_0 : decode cX3_byteAt 0 = .ok (.iload_n 1, 1) := dk_27 (dk_at dksX3_byteAt_0 0 rfl rfl)
theorem dX3_byteAt_1 : decode cX3_byteAt 1 = .ok (.aload_n 0, 1) := dk_42 (dk_at dksX3_byteAt_0 1 rfl rfl)
theorem dX3_byteAt_2 : decode cX3_byteAt 2 = .ok (.getfield 387, 3) := dk_180 1 131 (dk_at dksX3_byteAt_0 2 rfl rfl)
theorem dX3_byteAt_5 : decode cX3_byteAt 5 = .ok (.if_icmp .ge 12, 3) := dk_162 0 12 (dk_at dksX3_byteAt_0 5 rfl rfl)
theorem dX3_byteAt_8 : decode cX3_byteAt 8 = .ok (.aload_n 0, 1) := dk_42 (dk_at dksX3_byteAt_0 8 rfl rfl)
theorem dX3_byteAt_9 : decode cX3_byteAt 9 = .ok (.getfield 62, 3) := dk_180 0 62 (dk_at dksX3_byteAt_0 9 rfl rfl)
theorem dX3_byteAt_12 : decode cX3_byteAt 12 = .ok (.iload_n 1, 1) := dk_27 (dk_at dksX3_byteAt_0 12 rfl rfl)
theorem dX3_byteAt_13 : decode cX3_byteAt 13 = .ok (.iaload, 1) := dk_46 (dk_at dksX3_byteAt_0 13 rfl rfl)
theorem dX3_byteAt_14 : decode cX3_byteAt 14 = .ok (.goto 4, 3) := dk_167 0 4 (dk_at dksX3_byteAt_0 14 rfl rfl)
theorem dX3_byteAt_17 : decode cX3_byteAt 17 = .ok (.iconst (-1), 1) := dk_2 (dk_at dksX3_byteAt_0 17 rfl rfl)
theorem dX3_byteAt_18 : decode cX3_byteAt 18 = .ok (.ireturn, 1) := dk_172 (dk_at dksX3_byteAt_0 18 rfl rfl)
/-- PackingDuelModel.byteAt(I)I -/
def zb267 (G : zPg) (C : zO) (args : List Value) (Q : zQ) (Y : zY) (σ : zS) : Prop := ∃ (a0 : Nat) (x1 : Int32), args = [.ref a0, .int x1] ∧ (zgI σ (some a0) 4 29 (fun v1 => zJ (fun (p7 : Int32) (s8 : zS) => Q (some (.int p7)) s8) (fun (j9 : Int32 → zS → Prop) => ((v1 ≤ x1) → j9 (-1 : Int32) σ) ∧ ((¬ v1 ≤ x1) → zgR σ (some a0) 4 27 (fun v11 => zaI σ 0 v11 x1 (fun v23 => j9 v23 σ))))))
set_option maxHeartbeats 4000000 in
theorem wk267 {l : Launch} {g : zG} {d : Nat} {C : zO} (hG : zGk g) (hC : zSound l g d C) {args : List Value} {Q : zQ} {Y : zY} {σ : zS} (hw : zb267 (zpg g) C args Q Y σ) : zMet l g (d + 1) (⟨"PackingDuelModel", "byteAt", "(I)I"⟩, Cond.code ⟨"PackingDuelModel", "byteAt", "(I)I"⟩ prog_28_method_111_code 2 (Option.some FieldType.int)) args σ Q Y := by
  obtain ⟨a0, x1, rfl, hw⟩ := hw
  refine zof hG (by decide +kernel) [false, false] ⟨rfl, rfl, trivial⟩ (Nat.le_of_ble_eq_true rfl) (ls := [some (va_rf (some a0)), some (.int x1)]) rfl ?_
  intro X hX hR hTb hd1 hd2 hl hg hnm
  subst hl
  subst hg
  have hd : zDep X d := ⟨hd1, hd2⟩
  refine z_iload_n hX dX3_byteAt_0 rfl (i := 1) rfl ?_
  refine z_aload_n hX dX3_byteAt_1 rfl (i := 0) rfl ?_
  obtain ⟨a2, f3, v1, r4, m5, e6, hw⟩ := hw
  refine z_get hX zc4 (k := 29) dX3_byteAt_2 (Nat.le_of_ble_eq_true rfl) (zlk hX q2498) r4 m5 e6 ?_
  refine zJ_w (P := fun (j : Int32 → zS → Prop) => ∀ (p7 : Int32) (s8 : zS), j p7 s8 → zW X s8 18 [none, none] [.int p7]) hw (fun p7 s8 hw => ?_) (fun j9 hj9 hw => ?_)
  · exact z_ireturn hX hR dX3_byteAt_18 rfl hw
  · refine z_icmp_ge hX dX3_byteAt_5 (tgt := 17) rfl (fun c10 => ?_) (fun c10 => ?_)
    · have hw := hw.1 c10
      refine z_iconst hX (v := (-1 : Int32)) dX3_byteAt_17 (by decide) ?_
      refine z_sub (ls' := [none, none]) (zsN (zsN (zs0))) ?_
      exact hj9 _ _ hw
    · have hw := hw.2 c10
      refine z_aload_n hX dX3_byteAt_8 rfl (i := 0) rfl ?_
      obtain ⟨a12, f13, v11, r14, m15, e16, hw⟩ := hw
      refine z_get hX zc4 (k := 27) dX3_byteAt_9 (Nat.le_of_ble_eq_true rfl) (zlk hX q2496) r14 m15 e16 ?_
      refine z_iload_n hX dX3_byteAt_12 rfl (i := 1) rfl ?_
      obtain ⟨a17, n18, f19, r20, m21, i22, hw⟩ := hw
      refine z_iald hX dX3_byteAt_13 r20 m21 i22 ?_
      revert hw
      generalize f19 (Int32.toNatClampNeg x1) = v23
      intro hw
      refine z_goto hX dX3_byteAt_14 (tgt := 18) rfl ?_
      refine z_sub (ls' := [none, none]) (zsN (zsN (zs0))) ?_
      exact hj9 _ _ hw
abbrev cX3_isLetter : ByteArray := prog_28_method_112_code
def yX3_isLetter : MethodName := ⟨RX3, "isLetter", "(I)Z"⟩
def dkwX3_isLetter_1 : List UInt8 := [3, 172]
abbrev dktX3_isLetter_1 : List UInt8 := dkwX3_isLetter_1 ++ []
def dkwX3_isLetter_0 : List UInt8 := [42, 27, 182, 1, 134, 16, 97, 161, 0, 17, 42, 27, 182, 1, 134, 16, 122, 163, 0, 7, 4, 167, 0, 4]
abbrev dktX3_isLetter_0 : List UInt8 := dkwX3_isLetter_0 ++ dktX3_isLetter_1
theorem dksX3_isLetter_0 : cX3_isLetter.data.toList.drop 0 = dktX3_isLetter_0 := by decide +kernel
theorem dksX3_isLetter_1 : cX3_isLetter.data.toList.drop 24 = dktX3_isLetter_1 := dk_seg dksX3_isLetter_0 24 rfl rfl
theorem dX3_isLetter_0 : decode cX3_isLetter 0 = .ok (.aload_n 0, 1) := dk_42 (dk_at dksX3_isLetter_0 0 rfl rfl)
theorem dX3_isLetter_1 : decode cX3_isLetter 1 = .ok (.iload_n 1, 1) := dk_27 (dk_at dksX3_isLetter_0 1 rfl rfl)
theorem dX3_isLetter_2 : decode cX3_isLetter 2 = .ok (.invokevirtual 390, 3) := dk_182 1 134 (dk_at dksX3_isLetter_0 2 rfl rfl)
theorem dX3_isLetter_5 : decode cX3_isLetter 5 = .ok (.bipush 97, 2) := dk_16 97 (dk_at dksX3_isLetter_0 5 rfl rfl)
theorem dX3_isLetter_7 : decode cX3_isLetter 7 = .ok (.if_icmp .lt 17, 3) := dk_161 0 17 (dk_at dksX3_isLetter_0 7 rfl rfl)
theorem dX3_isLetter_10 : decode cX3_isLetter 10 = .ok (.aload_n 0, 1) := dk_42 (dk_at dksX3_isLetter_0 10 rfl rfl)
theorem dX3_isLetter_11 : decode cX3_isLetter 11 = .ok (.iload_n 1, 1) := dk_27 (dk_at dksX3_isLetter_0 11 rfl rfl)
theorem dX3_isLetter_12 : decode cX3_isLetter 12 = .ok (.invokevirtual 390, 3) := dk_182 1 134 (dk_at dksX3_isLetter_0 12 rfl rfl)
theorem dX3_isLetter_15 : decode cX3_isLetter 15 = .ok (.bipush 122, 2) := dk_16 122 (dk_at dksX3_isLetter_0 15 rfl rfl)
theorem dX3_isLetter_17 : decode cX3_isLetter 17 = .ok (.if_icmp .gt 7, 3) := dk_163 0 7 (dk_at dksX3_isLetter_0 17 rfl rfl)
theorem dX3_isLetter_20 : decode cX3_isLetter 20 = .ok (.iconst 1, 1) := dk_4 (dk_at dksX3_isLetter_0 20 rfl rfl)
theorem dX3_isLetter_21 : decode cX3_isLetter 21 = .ok (.goto 4, 3) := dk_167 0 4 (dk_at dksX3_isLetter_0 21 rfl rfl)
theorem dX3_isLetter_24 : decode cX3_isLetter 24 = .ok (.iconst 0, 1) := dk_3 (dk_at dksX3_isLetter_1 0 rfl rfl)
theorem dX3_isLetter_25 : decode cX3_isLetter 25 = .ok (.ireturn, 1) := dk_172 (dk_at dksX3_isLetter_1 1 rfl rfl)
/-- PackingDuelModel.isLetter(I)Z -/
def zb268 (G : zPg) (C : zO) (args : List Value) (Q : zQ) (Y : zY) (σ : zS) : Prop := ∃ (a0 : Nat) (x1 : Int32), args = [.ref a0, .int x1] ∧ (zrc σ (some a0) 4 (fun a4 => zcl C 267 [.ref a4, .int x1] Y σ (zqI (fun v1 s2 => zJ (fun (p8 : Int32) (s9 : zS) => zbool p8 ∧ Q (some (.int p8)) s9) (fun (j10 : Int32 → zS → Prop) => zJ (fun  (s11 : zS) => j10 (0 : Int32) s11) (fun (j12 : zS → Prop) => ((v1 < (97 : Int32)) → j12 s2) ∧ ((¬ v1 < (97 : Int32)) → zrc s2 (some a0) 4 (fun a17 => zcl C 267 [.ref a17, .int x1] Y s2 (zqI (fun v14 s15 => (((122 : Int32) < v14) → j12 s15) ∧ ((¬ (122 : Int32) < v14) → j10 (1 : Int32) s15)))))))))))
set_option maxHeartbeats 4000000 in
theorem wk268 {l : Launch} {g : zG} {d : Nat} {C : zO} (hG : zGk g) (hC : zSound l g d C) {args : List Value} {Q : zQ} {Y : zY} {σ : zS} (hw : zb268 (zpg g) C args Q Y σ) : zMet l g (d + 1) (⟨"PackingDuelModel", "isLetter", "(I)Z"⟩, Cond.code ⟨"PackingDuelModel", "isLetter", "(I)Z"⟩ prog_28_method_112_code 2 (Option.some FieldType.boolean)) args σ Q Y := by
  obtain ⟨a0, x1, rfl, hw⟩ := hw
  refine zof hG (by decide +kernel) [false, false] ⟨rfl, rfl, trivial⟩ (Nat.le_of_ble_eq_true rfl) (ls := [some (va_rf (some a0)), some (.int x1)]) rfl ?_
  intro X hX hR hTb hd1 hd2 hl hg hnm
  subst hl
  subst hg
  have hd : zDep X d := ⟨hd1, hd2⟩
  refine z_aload_n hX dX3_isLetter_0 rfl (i := 0) rfl ?_
  refine z_iload_n hX dX3_isLetter_1 rfl (i := 1) rfl ?_
  obtain ⟨a4, f5, r6, m7, hw⟩ := hw
  refine z_invV hX hd r6 (ci := 4) rfl rfl m7 dX3_isLetter_2 (hC 267 _ zm267 _ _ _ _ hw) q3034 q3036 qs103 zh7 q3037 q136 zn267 rfl (Nat.le_of_ble_eq_true rfl) (st := []) rfl (zcs8 (Nat.le_of_ble_eq_true rfl)) rfl (zkI (fun v1 s2 hw => ?_)) (zout hX hR hTb)
  refine z_bipush hX (v := (97 : Int32)) dX3_isLetter_5 (by decide) ?_
  refine zJ_w (P := fun (j : Int32 → zS → Prop) => ∀ (p8 : Int32) (s9 : zS), j p8 s9 → zW X s9 25 [none, none] [.int p8]) hw (fun p8 s9 hw => ?_) (fun j10 hj10 hw => ?_)
  · exact z_ireturn hX hR dX3_isLetter_25 (zn_z hw.1) hw.2
  · refine zJ_w (P := fun (j : zS → Prop) => ∀  (s11 : zS), j  s11 → zW X s11 24 [none, none] []) hw (fun  s11 hw => ?_) (fun j12 hj12 hw => ?_)
    · refine z_iconst hX (v := (0 : Int32)) dX3_isLetter_24 (by decide) ?_
      exact hj10 _ _ hw
    · refine z_icmp_lt hX dX3_isLetter_7 (tgt := 24) rfl (fun c13 => ?_) (fun c13 => ?_)
      · have hw := hw.1 c13
        refine z_sub (ls' := [none, none]) (zsN (zsN (zs0))) ?_
        exact hj12  _ hw
      · have hw := hw.2 c13
        refine z_aload_n hX dX3_isLetter_10 rfl (i := 0) rfl ?_
        refine z_iload_n hX dX3_isLetter_11 rfl (i := 1) rfl ?_
        obtain ⟨a17, f18, r19, m20, hw⟩ := hw
        refine z_invV hX hd r19 (ci := 4) rfl rfl m20 dX3_isLetter_12 (hC 267 _ zm267 _ _ _ _ hw) q3034 q3036 qs103 zh7 q3037 q136 zn267 rfl (Nat.le_of_ble_eq_true rfl) (st := []) rfl (zcs8 (Nat.le_of_ble_eq_true rfl)) rfl (zkI (fun v14 s15 hw => ?_)) (zout hX hR hTb)
        refine z_bipush hX (v := (122 : Int32)) dX3_isLetter_15 (by decide) ?_
        refine z_icmp_gt hX dX3_isLetter_17 (tgt := 24) rfl (fun c21 => ?_) (fun c21 => ?_)
        · have hw := hw.1 c21
          refine z_sub (ls' := [none, none]) (zsN (zsN (zs0))) ?_
          exact hj12  _ hw
        · have hw := hw.2 c21
          refine z_iconst hX (v := (1 : Int32)) dX3_isLetter_20 (by decide) ?_
          refine z_goto hX dX3_isLetter_21 (tgt := 25) rfl ?_
          refine z_sub (ls' := [none, none]) (zsN (zsN (zs0))) ?_
          exact hj10 _ _ hw
abbrev cX3_isDigit : ByteArray := prog_28_method_113_code
def yX3_isDigit : MethodName := ⟨RX3, "isDigit", "(I)Z"⟩
def dkwX3_isDigit_1 : List UInt8 := [3, 172]
abbrev dktX3_isDigit_1 : List UInt8 := dkwX3_isDigit_1 ++ []
def dkwX3_isDigit_0 : List UInt8 := [42, 27, 182, 1, 134, 16, 48, 161, 0, 17, 42, 27, 182, 1, 134, 16, 57, 163, 0, 7, 4, 167, 0, 4]
abbrev dktX3_isDigit_0 : List UInt8 := dkwX3_isDigit_0 ++ dktX3_isDigit_1
theorem dksX3_isDigit_0 : cX3_isDigit.data.toList.drop 0 = dktX3_isDigit_0 := by decide +kernel
theorem dksX3_isDigit_1 : cX3_isDigit.data.toList.drop 24 = dktX3_isDigit_1 := dk_seg dksX3_isDigit_0 24 rfl rfl
theorem dX3_isDigit_0 : decode cX3_isDigit 0 = .ok (.aload_n 0, 1) := dk_42 (dk_at dksX3_isDigit_0 0 rfl rfl)
theorem dX3_isDigit_1 : decode cX3_isDigit 1 = .ok (.iload_n 1, 1) := dk_27 (dk_at dksX3_isDigit_0 1 rfl rfl)
theorem dX3_isDigit_2 : decode cX3_isDigit 2 = .ok (.invokevirtual 390, 3) := dk_182 1 134 (dk_at dksX3_isDigit_0 2 rfl rfl)
theorem dX3_isDigit_5 : decode cX3_isDigit 5 = .ok (.bipush 48, 2) := dk_16 48 (dk_at dksX3_isDigit_0 5 rfl rfl)
theorem dX3_isDigit_7 : decode cX3_isDigit 7 = .ok (.if_icmp .lt 17, 3) := dk_161 0 17 (dk_at dksX3_isDigit_0 7 rfl rfl)
theorem dX3_isDigit_10 : decode cX3_isDigit 10 = .ok (.aload_n 0, 1) := dk_42 (dk_at dksX3_isDigit_0 10 rfl rfl)
theorem dX3_isDigit_11 : decode cX3_isDigit 11 = .ok (.iload_n 1, 1) := dk_27 (dk_at dksX3_isDigit_0 11 rfl rfl)
theorem dX3_isDigit_12 : decode cX3_isDigit 12 = .ok (.invokevirtual 390, 3) := dk_182 1 134 (dk_at dksX3_isDigit_0 12 rfl rfl)
theorem dX3_isDigit_15 : decode cX3_isDigit 15 = .ok (.bipush 57, 2) := dk_16 57 (dk_at dksX3_isDigit_0 15 rfl rfl)
theorem dX3_isDigit_17 : decode cX3_isDigit 17 = .ok (.if_icmp .gt 7, 3) := dk_163 0 7 (dk_at dksX3_isDigit_0 17 rfl rfl)
theorem dX3_isDigit_20 : decode cX3_isDigit 20 = .ok (.iconst 1, 1) := dk_4 (dk_at dksX3_isDigit_0 20 rfl rfl)
theorem dX3_isDigit_21 : decode cX3_isDigit 21 = .ok (.goto 4, 3) := dk_167 0 4 (dk_at dksX3_isDigit_0 21 rfl rfl)
theorem dX3_isDigit_24 : decode cX3_isDigit 24 = .ok (.iconst 0, 1) := dk_3 (dk_at dksX3_isDigit_1 0 rfl rfl)
theorem dX3_isDigit_25 : decode cX3_isDigit 25 = .ok (.ireturn, 1) := dk_172 (dk_at dksX3_isDigit_1 1 rfl rfl)
/-- PackingDuelModel.isDigit(I)Z -/
def zb269 (G : zPg) (C : zO) (args : List Value) (Q : zQ) (Y : zY) (σ : zS) : Prop := ∃ (a0 : Nat) (x1 : Int32), args = [.ref a0, .int x1] ∧ (zrc σ (some a0) 4 (fun a4 => zcl C 267 [.ref a4, .int x1] Y σ (zqI (fun v1 s2 => zJ (fun (p8 : Int32) (s9 : zS) => zbool p8 ∧ Q (some (.int p8)) s9) (fun (j10 : Int32 → zS → Prop) => zJ (fun  (s11 : zS) => j10 (0 : Int32) s11) (fun (j12 : zS → Prop) => ((v1 < (48 : Int32)) → j12 s2) ∧ ((¬ v1 < (48 : Int32)) → zrc s2 (some a0) 4 (fun a17 => zcl C 267 [.ref a17, .int x1] Y s2 (zqI (fun v14 s15 => (((57 : Int32) < v14) → j12 s15) ∧ ((¬ (57 : Int32) < v14) → j10 (1 : Int32) s15)))))))))))
set_option maxHeartbeats 4000000 in
theorem wk269 {l : Launch} {g : zG} {d : Nat} {C : zO} (hG : zGk g) (hC : zSound l g d C) {args : List Value} {Q : zQ} {Y : zY} {σ : zS} (hw : zb269 (zpg g) C args Q Y σ) : zMet l g (d + 1) (⟨"PackingDuelModel", "isDigit", "(I)Z"⟩, Cond.code ⟨"PackingDuelModel", "isDigit", "(I)Z"⟩ prog_28_method_113_code 2 (Option.some FieldType.boolean)) args σ Q Y := by
  obtain ⟨a0, x1, rfl, hw⟩ := hw
  refine zof hG (by decide +kernel) [false, false] ⟨rfl, rfl, trivial⟩ (Nat.le_of_ble_eq_true rfl) (ls := [some (va_rf (some a0)), some (.int x1)]) rfl ?_
  intro X hX hR hTb hd1 hd2 hl hg hnm
  subst hl
  subst hg
  have hd : zDep X d := ⟨hd1, hd2⟩
  refine z_aload_n hX dX3_isDigit_0 rfl (i := 0) rfl ?_
  refine z_iload_n hX dX3_isDigit_1 rfl (i := 1) rfl ?_
  obtain ⟨a4, f5, r6, m7, hw⟩ := hw
  refine z_invV hX hd r6 (ci := 4) rfl rfl m7 dX3_isDigit_2 (hC 267 _ zm267 _ _ _ _ hw) q3034 q3036 qs103 zh7 q3037 q136 zn267 rfl (Nat.le_of_ble_eq_true rfl) (st := []) rfl (zcs8 (Nat.le_of_ble_eq_true rfl)) rfl (zkI (fun v1 s2 hw => ?_)) (zout hX hR hTb)
  refine z_bipush hX (v := (48 : Int32)) dX3_isDigit_5 (by decide) ?_
  refine zJ_w (P := fun (j : Int32 → zS → Prop) => ∀ (p8 : Int32) (s9 : zS), j p8 s9 → zW X s9 25 [none, none] [.int p8]) hw (fun p8 s9 hw => ?_) (fun j10 hj10 hw => ?_)
  · exact z_ireturn hX hR dX3_isDigit_25 (zn_z hw.1) hw.2
  · refine zJ_w (P := fun (j : zS → Prop) => ∀  (s11 : zS), j  s11 → zW X s11 24 [none, none] []) hw (fun  s11 hw => ?_) (fun j12 hj12 hw => ?_)
    · refine z_iconst hX (v := (0 : Int32)) dX3_isDigit_24 (by decide) ?_
      exact hj10 _ _ hw
    · refine z_icmp_lt hX dX3_isDigit_7 (tgt := 24) rfl (fun c13 => ?_) (fun c13 => ?_)
      · have hw := hw.1 c13
        refine z_sub (ls' := [none, none]) (zsN (zsN (zs0))) ?_
        exact hj12  _ hw
      · have hw := hw.2 c13
        refine z_aload_n hX dX3_isDigit_10 rfl (i := 0) rfl ?_
        refine z_iload_n hX dX3_isDigit_11 rfl (i := 1) rfl ?_
        obtain ⟨a17, f18, r19, m20, hw⟩ := hw
        refine z_invV hX hd r19 (ci := 4) rfl rfl m20 dX3_isDigit_12 (hC 267 _ zm267 _ _ _ _ hw) q3034 q3036 qs103 zh7 q3037 q136 zn267 rfl (Nat.le_of_ble_eq_true rfl) (st := []) rfl (zcs8 (Nat.le_of_ble_eq_true rfl)) rfl (zkI (fun v14 s15 hw => ?_)) (zout hX hR hTb)
        refine z_bipush hX (v := (57 : Int32)) dX3_isDigit_15 (by decide) ?_
        refine z_icmp_gt hX dX3_isDigit_17 (tgt := 24) rfl (fun c21 => ?_) (fun c21 => ?_)
        · have hw := hw.1 c21
          refine z_sub (ls' := [none, none]) (zsN (zsN (zs0))) ?_
          exact hj12  _ hw
        · have hw := hw.2 c21
          refine z_iconst hX (v := (1 : Int32)) dX3_isDigit_20 (by decide) ?_
          refine z_goto hX dX3_isDigit_21 (tgt := 25) rfl ?_
          refine z_sub (ls' := [none, none]) (zsN (zsN (zs0))) ?_
          exact hj10 _ _ hw
abbrev cX3_readAll : ByteArray := prog_28_method_130_code
def yX3_readAll : MethodName := ⟨RX3, "readAll", "()V"⟩
def dkwX3_readAll_5 : List UInt8 := [42, 180, 1, 152, 154, 0, 10, 42, 180, 1, 143, 154, 0, 7, 4, 167, 0, 4, 3, 4, 182, 1, 178, 177]
abbrev dktX3_readAll_5 : List UInt8 := dkwX3_readAll_5 ++ []
def dkwX3_readAll_4 : List UInt8 := [19, 1, 225, 182, 1, 174, 153, 0, 17, 42, 42, 19, 1, 223, 182, 1, 174, 182, 1, 227, 167, 255, 225, 42]
abbrev dktX3_readAll_4 : List UInt8 := dkwX3_readAll_4 ++ dktX3_readAll_5
def dkwX3_readAll_3 : List UInt8 := [182, 1, 174, 153, 0, 10, 42, 182, 1, 220, 167, 255, 242, 42, 19, 1, 223, 182, 1, 174, 154, 0, 13, 42]
abbrev dktX3_readAll_3 : List UInt8 := dkwX3_readAll_3 ++ dktX3_readAll_4
def dkwX3_readAll_2 : List UInt8 := [182, 1, 215, 153, 0, 7, 4, 167, 0, 4, 3, 79, 42, 16, 59, 182, 1, 201, 42, 19, 1, 218]
abbrev dktX3_readAll_2 : List UInt8 := dkwX3_readAll_2 ++ dktX3_readAll_3
def dkwX3_readAll_1 : List UInt8 := [180, 0, 13, 5, 42, 3, 17, 0, 200, 182, 1, 198, 79, 42, 180, 0, 13, 6, 42, 19, 1, 213]
abbrev dktX3_readAll_1 : List UInt8 := dkwX3_readAll_1 ++ dktX3_readAll_2
def dkwX3_readAll_0 : List UInt8 := [42, 19, 1, 207, 182, 1, 209, 42, 180, 0, 13, 4, 42, 3, 17, 0, 200, 182, 1, 198, 79, 42]
abbrev dktX3_readAll_0 : List UInt8 := dkwX3_readAll_0 ++ dktX3_readAll_1
theorem dksX3_readAll_0 : cX3_readAll.data.toList.drop 0 = dktX3_readAll_0 := by decide +kernel
theorem dksX3_readAll_1 : cX3_readAll.data.toList.drop 22 = dktX3_readAll_1 := dk_seg dksX3_readAll_0 22 rfl rfl
theorem dksX3_readAll_2 : cX3_readAll.data.toList.drop 44 = dktX3_readAll_2 := dk_seg dksX3_readAll_1 22 rfl rfl
theorem dksX3_readAll_3 : cX3_readAll.data.toList.drop 66 = dktX3_readAll_3 := dk_seg dksX3_readAll_2 22 rfl rfl
theorem dksX3_readAll_4 : cX3_readAll.data.toList.drop 90 = dktX3_readAll_4 := dk_seg dksX3_readAll_3 24 rfl rfl
theorem dksX3_readAll_5 : cX3_readAll.data.toList.drop 114 = dktX3_readAll_5 := dk_seg dksX3_readAll_4 24 rfl rfl
theorem dX3_readAll_0 : decode cX3_readAll 0 = .ok (.aload_n 0, 1) := dk_42 (dk_at dksX3_readAll_0 0 rfl rfl)
theorem dX3_readAll_1 : decode cX3_readAll 1 = .ok (.ldc_w 463, 3) := dk_19 1 207 (dk_at dksX3_readAll_0 1 rfl rfl)
theorem dX3_readAll_4 : decode cX3_readAll 4 = .ok (.invokevirtual 465, 3) := dk_182 1 209 (dk_at dksX3_readAll_0 4 rfl rfl)
theorem dX3_readAll_7 : decode cX3_readAll 7 = .ok (.aload_n 0, 1) := dk_42 (dk_at dksX3_readAll_0 7 rfl rfl)
theorem dX3_readAll_8 : decode cX3_readAll 8 = .ok (.getfield 13, 3) := dk_180 0 13 (dk_at dksX3_readAll_0 8 rfl rfl)
theorem dX3_readAll_11 : decode cX3_readAll 11 = .ok (.iconst 1, 1) := dk_4 (dk_at dksX3_readAll_0 11 rfl rfl)
theorem dX3_readAll_12 : decode cX3_readAll 12 = .ok (.aload_n 0, 1) := dk_42 (dk_at dksX3_readAll_0 12 rfl rfl)
theorem dX3_readAll_13 : decode cX3_readAll 13 = .ok (.iconst 0, 1) := dk_3 (dk_at dksX3_readAll_0 13 rfl rfl)
theorem dX3_readAll_14 : decode cX3_readAll 14 = .ok (.sipush 200, 3) := dk_17 0 200 (dk_at dksX3_readAll_0 14 rfl rfl)
theorem dX3_readAll_17 : decode cX3_readAll 17 = .ok (.invokevirtual 454, 3) := dk_182 1 198 (dk_at dksX3_readAll_0 17 rfl rfl)
theorem dX3_readAll_20 : decode cX3_readAll 20 = .ok (.iastore, 1) := dk_79 (dk_at dksX3_readAll_0 20 rfl rfl)
theorem dX3_readAll_21 : decode cX3_readAll 21 = .ok (.aload_n 0, 1) := dk_42 (dk_at dksX3_readAll_0 21 rfl rfl)
theorem dX3_readAll_22 : decode cX3_readAll 22 = .ok (.getfield 13, 3) := dk_180 0 13 (dk_at dksX3_readAll_1 0 rfl rfl)
theorem dX3_readAll_25 : decode cX3_readAll 25 = .ok (.iconst 2, 1) := dk_5 (dk_at dksX3_readAll_1 3 rfl rfl)
theorem dX3_readAll_26 : decode cX3_readAll 26 = .ok (.aload_n 0, 1) := dk_42 (dk_at dksX3_readAll_1 4 rfl rfl)
theorem dX3_readAll_27 : decode cX3_readAll 27 = .ok (.iconst 0, 1) := dk_3 (dk_at dksX3_readAll_1 5 rfl rfl)
theorem dX3_readAll_28 : decode cX3_readAll 28 = .ok (.sipush 200, 3) := dk_17 0 200 (dk_at dksX3_readAll_1 6 rfl rfl)
theorem dX3_readAll_31 : decode cX3_readAll 31 = .ok (.invokevirtual 454, 3) := dk_182 1 198 (dk_at dksX3_readAll_1 9 rfl rfl)
theorem dX3_readAll_34 : decode cX3_readAll 34 = .ok (.iastore, 1) := dk_79 (dk_at dksX3_readAll_1 12 rfl rfl)
theorem dX3_readAll_35 : decode cX3_readAll 35 = .ok (.aload_n 0, 1) := dk_42 (dk_at dksX3_readAll_1 13 rfl rfl)
theorem dX3_readAll_36 : decode cX3_readAll 36 = .ok (.getfield 13, 3) := dk_180 0 13 (dk_at dksX3_readAll_1 14 rfl rfl)
theorem dX3_readAll_39 : decode cX3_readAll 39 = .ok (.iconst 3, 1) := dk_6 (dk_at dksX3_readAll_1 17 rfl rfl)
theorem dX3_readAll_40 : decode cX3_readAll 40 = .ok (.aload_n 0, 1) := dk_42 (dk_at dksX3_readAll_1 18 rfl rfl)
theorem dX3_readAll_41 : decode cX3_readAll 41 = .ok (.ldc_w 469, 3) := dk_19 1 213 (dk_at dksX3_readAll_1 19 rfl rfl)
theorem dX3_readAll_44 : decode cX3_readAll 44 = .ok (.invokevirtual 471, 3) := dk_182 1 215 (dk_at dksX3_readAll_2 0 rfl rfl)
theorem dX3_readAll_47 : decode cX3_readAll 47 = .ok (.ifCond .eq 7, 3) := dk_153 0 7 (dk_at dksX3_readAll_2 3 rfl rfl)
theorem dX3_readAll_50 : decode cX3_readAll 50 = .ok (.iconst 1, 1) := dk_4 (dk_at dksX3_readAll_2 6 rfl rfl)
theorem dX3_readAll_51 : decode cX3_readAll 51 = .ok (.goto 4, 3) := dk_167 0 4 (dk_at dksX3_readAll_2 7 rfl rfl)
theorem dX3_readAll_54 : decode cX3_readAll 54 = .ok (.iconst 0, 1) := dk_3 (dk_at dksX3_readAll_2 10 rfl rfl)
theorem dX3_readAll_55 : decode cX3_readAll 55 = .ok (.iastore, 1) := dk_79 (dk_at dksX3_readAll_2 11 rfl rfl)
theorem dX3_readAll_56 : decode cX3_readAll 56 = .ok (.aload_n 0, 1) := dk_42 (dk_at dksX3_readAll_2 12 rfl rfl)
theorem dX3_readAll_57 : decode cX3_readAll 57 = .ok (.bipush 59, 2) := dk_16 59 (dk_at dksX3_readAll_2 13 rfl rfl)
theorem dX3_readAll_59 : decode cX3_readAll 59 = .ok (.invokevirtual 457, 3) := dk_182 1 201 (dk_at dksX3_readAll_2 15 rfl rfl)
theorem dX3_readAll_62 : decode cX3_readAll 62 = .ok (.aload_n 0, 1) := dk_42 (dk_at dksX3_readAll_2 18 rfl rfl)
theorem dX3_readAll_63 : decode cX3_readAll 63 = .ok (.ldc_w 474, 3) := dk_19 1 218 (dk_at dksX3_readAll_2 19 rfl rfl)
theorem dX3_readAll_66 : decode cX3_readAll 66 = .ok (.invokevirtual 430, 3) := dk_182 1 174 (dk_at dksX3_readAll_3 0 rfl rfl)
theorem dX3_readAll_69 : decode cX3_readAll 69 = .ok (.ifCond .eq 10, 3) := dk_153 0 10 (dk_at dksX3_readAll_3 3 rfl rfl)
theorem dX3_readAll_72 : decode cX3_readAll 72 = .ok (.aload_n 0, 1) := dk_42 (dk_at dksX3_readAll_3 6 rfl rfl)
theorem dX3_readAll_73 : decode cX3_readAll 73 = .ok (.invokevirtual 476, 3) := dk_182 1 220 (dk_at dksX3_readAll_3 7 rfl rfl)
theorem dX3_readAll_76 : decode cX3_readAll 76 = .ok (.goto (-14), 3) := dk_167 255 242 (dk_at dksX3_readAll_3 10 rfl rfl)
theorem dX3_readAll_79 : decode cX3_readAll 79 = .ok (.aload_n 0, 1) := dk_42 (dk_at dksX3_readAll_3 13 rfl rfl)
theorem dX3_readAll_80 : decode cX3_readAll 80 = .ok (.ldc_w 479, 3) := dk_19 1 223 (dk_at dksX3_readAll_3 14 rfl rfl)
theorem dX3_readAll_83 : decode cX3_readAll 83 = .ok (.invokevirtual 430, 3) := dk_182 1 174 (dk_at dksX3_readAll_3 17 rfl rfl)
theorem dX3_readAll_86 : decode cX3_readAll 86 = .ok (.ifCond .ne 13, 3) := dk_154 0 13 (dk_at dksX3_readAll_3 20 rfl rfl)
theorem dX3_readAll_89 : decode cX3_readAll 89 = .ok (.aload_n 0, 1) := dk_42 (dk_at dksX3_readAll_3 23 rfl rfl)
theorem dX3_readAll_90 : decode cX3_readAll 90 = .ok (.ldc_w 481, 3) := dk_19 1 225 (dk_at dksX3_readAll_4 0 rfl rfl)
theorem dX3_readAll_93 : decode cX3_readAll 93 = .ok (.invokevirtual 430, 3) := dk_182 1 174 (dk_at dksX3_readAll_4 3 rfl rfl)
theorem dX3_readAll_96 : decode cX3_readAll 96 = .ok (.ifCond .eq 17, 3) := dk_153 0 17 (dk_at dksX3_readAll_4 6 rfl rfl)
theorem dX3_readAll_99 : decode cX3_readAll 99 = .ok (.aload_n 0, 1) := dk_42 (dk_at dksX3_readAll_4 9 rfl rfl)
theorem dX3_readAll_100 : decode cX3_readAll 100 = .ok (.aload_n 0, 1) := dk_42 (dk_at dksX3_readAll_4 10 rfl rfl)
theorem dX3_readAll_101 : decode cX3_readAll 101 = .ok (.ldc_w 479, 3) := dk_19 1 223 (dk_at dksX3_readAll_4 11 rfl rfl)
theorem dX3_readAll_104 : decode cX3_readAll 104 = .ok (.invokevirtual 430, 3) := dk_182 1 174 (dk_at dksX3_readAll_4 14 rfl rfl)
theorem dX3_readAll_107 : decode cX3_readAll 107 = .ok (.invokevirtual 483, 3) := dk_182 1 227 (dk_at dksX3_readAll_4 17 rfl rfl)
theorem dX3_readAll_110 : decode cX3_readAll 110 = .ok (.goto (-31), 3) := dk_167 255 225 (dk_at dksX3_readAll_4 20 rfl rfl)
theorem dX3_readAll_113 : decode cX3_readAll 113 = .ok (.aload_n 0, 1) := dk_42 (dk_at dksX3_readAll_4 23 rfl rfl)
theorem dX3_readAll_114 : decode cX3_readAll 114 = .ok (.aload_n 0, 1) := dk_42 (dk_at dksX3_readAll_5 0 rfl rfl)
theorem dX3_readAll_115 : decode cX3_readAll 115 = .ok (.getfield 408, 3) := dk_180 1 152 (dk_at dksX3_readAll_5 1 rfl rfl)
theorem dX3_readAll_118 : decode cX3_readAll 118 = .ok (.ifCond .ne 10, 3) := dk_154 0 10 (dk_at dksX3_readAll_5 4 rfl rfl)
theorem dX3_readAll_121 : decode cX3_readAll 121 = .ok (.aload_n 0, 1) := dk_42 (dk_at dksX3_readAll_5 7 rfl rfl)
theorem dX3_readAll_122 : decode cX3_readAll 122 = .ok (.getfield 399, 3) := dk_180 1 143 (dk_at dksX3_readAll_5 8 rfl rfl)
theorem dX3_readAll_125 : decode cX3_readAll 125 = .ok (.ifCond .ne 7, 3) := dk_154 0 7 (dk_at dksX3_readAll_5 11 rfl rfl)
theorem dX3_readAll_128 : decode cX3_readAll 128 = .ok (.iconst 1, 1) := dk_4 (dk_at dksX3_readAll_5 14 rfl rfl)
theorem dX3_readAll_129 : decode cX3_readAll 129 = .ok (.goto 4, 3) := dk_167 0 4 (dk_at dksX3_readAll_5 15 rfl rfl)
theorem dX3_readAll_132 : decode cX3_readAll 132 = .ok (.iconst 0, 1) := dk_3 (dk_at dksX3_readAll_5 18 rfl rfl)
theorem dX3_readAll_133 : decode cX3_readAll 133 = .ok (.iconst 1, 1) := dk_4 (dk_at dksX3_readAll_5 19 rfl rfl)
theorem dX3_readAll_134 : decode cX3_readAll 134 = .ok (.invokevirtual 434, 3) := dk_182 1 178 (dk_at dksX3_readAll_5 20 rfl rfl)
theorem dX3_readAll_137 : decode cX3_readAll 137 = .ok (.return_, 1) := dk_177 (dk_at dksX3_readAll_5 23 rfl rfl)
/-- PackingDuelModel.readAll()V -/
def zb270 (G : zPg) (C : zO) (args : List Value) (Q : zQ) (Y : zY) (σ : zS) : Prop := ∃ (a0 : Nat), args = [.ref a0] ∧ (zrc σ (some a0) 4 (fun a4 => zcl C 271 [.ref a4, va_rf (some (G.2 19))] Y σ (zqV (fun s2 => zgR s2 (some a0) 4 1 (fun v8 => zrc s2 (some a0) 4 (fun a17 => zcl C 276 [.ref a17, .int (0 : Int32), .int (200 : Int32)] Y s2 (zqI (fun v14 s15 => zsI s15 G.1 0 v8 (1 : Int32) v14 (fun s28 => zgR s28 (some a0) 4 1 (fun v30 => zrc s28 (some a0) 4 (fun a39 => zcl C 276 [.ref a39, .int (0 : Int32), .int (200 : Int32)] Y s28 (zqI (fun v36 s37 => zsI s37 G.1 0 v30 (2 : Int32) v36 (fun s50 => zgR s50 (some a0) 4 1 (fun v52 => zrc s50 (some a0) 4 (fun a61 => zcl C 278 [.ref a61, va_rf (some (G.2 20))] Y s50 (zqI (fun v58 s59 => zJ (fun (p65 : Int32) (s66 : zS) => zsI s66 G.1 0 v52 (3 : Int32) p65 (fun s75 => zrc s75 (some a0) 4 (fun a80 => zcl C 279 [.ref a80, .int (59 : Int32)] Y s75 (zqV (fun s78 => ∃ n, zIt (fun  _ => False) (fun rec85  (s84 : zS) => zrc s84 (some a0) 4 (fun a89 => zcl C 272 [.ref a89, va_rf (some (G.2 21))] Y s84 (zqI (fun v86 s87 => ((v86 = 0) → ∃ n, zIt (fun  _ => False) (fun rec95  (s94 : zS) => zrc s94 (some a0) 4 (fun a99 => zcl C 272 [.ref a99, va_rf (some (G.2 22))] Y s94 (zqI (fun v96 s97 => zJ (fun  (s103 : zS) => zrc s103 (some a0) 4 (fun a108 => zcl C 272 [.ref a108, va_rf (some (G.2 22))] Y s103 (zqI (fun v105 s106 => zrc s106 (some a0) 4 (fun a115 => zcl C 282 [.ref a115, .int v105] Y s106 (zqV (fun s113 => rec95 s113))))))) (fun (j104 : zS → Prop) => ((¬ v96 = 0) → j104 s97) ∧ ((v96 = 0) → zrc s97 (some a0) 4 (fun a123 => zcl C 272 [.ref a123, va_rf (some (G.2 23))] Y s97 (zqI (fun v120 s121 => ((v120 = 0) → zgI s121 (some a0) 4 33 (fun v128 => zJ (fun (p134 : Int32) (s135 : zS) => zrc s135 (some a0) 4 (fun a140 => zcl C 273 [.ref a140, .int p134, .int (1 : Int32)] Y s135 (zqV (fun s138 => Q none s138)))) (fun (j136 : Int32 → zS → Prop) => zJ (fun  (s144 : zS) => j136 (1 : Int32) s144) (fun (j145 : zS → Prop) => ((¬ v128 = 0) → j145 s121) ∧ ((v128 = 0) → zgI s121 (some a0) 4 32 (fun v147 => ((¬ v147 = 0) → j136 (0 : Int32) s121) ∧ ((v147 = 0) → j145 s121))))))) ∧ ((¬ v120 = 0) → j104 s121)))))))))) n  s87) ∧ ((¬ v86 = 0) → zrc s87 (some a0) 4 (fun a158 => zcl C 281 [.ref a158] Y s87 (zqV (fun s156 => rec85 s156)))))))) n  s78))))) (fun (j67 : Int32 → zS → Prop) => ((v58 = 0) → j67 (0 : Int32) s59) ∧ ((¬ v58 = 0) → j67 (1 : Int32) s59))))))))))))))))))))
set_option maxHeartbeats 4000000 in
theorem wk270 {l : Launch} {g : zG} {d : Nat} {C : zO} (hG : zGk g) (hC : zSound l g d C) {args : List Value} {Q : zQ} {Y : zY} {σ : zS} (hw : zb270 (zpg g) C args Q Y σ) : zMet l g (d + 1) (⟨"PackingDuelModel", "readAll", "()V"⟩, Cond.code ⟨"PackingDuelModel", "readAll", "()V"⟩ prog_28_method_130_code 1 (Option.none : Option FieldType)) args σ Q Y := by
  obtain ⟨a0, rfl, hw⟩ := hw
  refine zof hG (by decide +kernel) [false] ⟨rfl, trivial⟩ (Nat.le_of_ble_eq_true rfl) (ls := [some (va_rf (some a0))]) rfl ?_
  intro X hX hR hTb hd1 hd2 hl hg hnm
  subst hl
  subst hg
  have hd : zDep X d := ⟨hd1, hd2⟩
  refine z_aload_n hX dX3_readAll_0 rfl (i := 0) rfl ?_
  refine z_ldcwS hX (tx := "duel") (j := 19) dX3_readAll_1 (List.mem_of_getElem? (i := 19) rfl) ?_
  obtain ⟨a4, f5, r6, m7, hw⟩ := hw
  refine z_invV hX hd r6 (ci := 4) rfl rfl m7 dX3_readAll_4 (hC 271 _ zm271 _ _ _ _ hw) q3051 q3053 qs107 zh7 q3054 q136 zn271 rfl (Nat.le_of_ble_eq_true rfl) (st := []) rfl (zcs8 (Nat.le_of_ble_eq_true rfl)) rfl (zkV (fun s2 hw => ?_)) (zout hX hR hTb)
  refine z_aload_n hX dX3_readAll_7 rfl (i := 0) rfl ?_
  obtain ⟨a9, f10, v8, r11, m12, e13, hw⟩ := hw
  refine z_get hX zc4 (k := 1) dX3_readAll_8 (Nat.le_of_ble_eq_true rfl) (zlk hX q2470) r11 m12 e13 ?_
  refine z_iconst hX (v := (1 : Int32)) dX3_readAll_11 (by decide) ?_
  refine z_aload_n hX dX3_readAll_12 rfl (i := 0) rfl ?_
  refine z_iconst hX (v := (0 : Int32)) dX3_readAll_13 (by decide) ?_
  refine z_sipush hX (v := (200 : Int32)) dX3_readAll_14 (by decide) ?_
  obtain ⟨a17, f18, r19, m20, hw⟩ := hw
  refine z_invV hX hd r19 (ci := 4) rfl rfl m20 dX3_readAll_17 (hC 276 _ zm276 _ _ _ _ hw) q3073 q3075 qs112 zh7 q3076 q136 zn276 rfl (Nat.le_of_ble_eq_true rfl) (st := [.int (1 : Int32), va_rf v8]) rfl (zcs8 (Nat.le_of_ble_eq_true rfl)) rfl (zkI (fun v14 s15 hw => ?_)) (zout hX hR hTb)
  obtain ⟨a21, n22, f23, r24, g25, m26, i27, hw⟩ := hw
  refine z_iast hX dX3_readAll_20 r24 g25 m26 i27 (z_nm (fun s28 e29 => ?_))
  have hw := hw s28 e29
  refine z_aload_n hX dX3_readAll_21 rfl (i := 0) rfl ?_
  obtain ⟨a31, f32, v30, r33, m34, e35, hw⟩ := hw
  refine z_get hX zc4 (k := 1) dX3_readAll_22 (Nat.le_of_ble_eq_true rfl) (zlk hX q2470) r33 m34 e35 ?_
  refine z_iconst hX (v := (2 : Int32)) dX3_readAll_25 (by decide) ?_
  refine z_aload_n hX dX3_readAll_26 rfl (i := 0) rfl ?_
  refine z_iconst hX (v := (0 : Int32)) dX3_readAll_27 (by decide) ?_
  refine z_sipush hX (v := (200 : Int32)) dX3_readAll_28 (by decide) ?_
  obtain ⟨a39, f40, r41, m42, hw⟩ := hw
  refine z_invV hX hd r41 (ci := 4) rfl rfl m42 dX3_readAll_31 (hC 276 _ zm276 _ _ _ _ hw) q3073 q3075 qs112 zh7 q3076 q136 zn276 rfl (Nat.le_of_ble_eq_true rfl) (st := [.int (2 : Int32), va_rf v30]) rfl (zcs8 (Nat.le_of_ble_eq_true rfl)) rfl (zkI (fun v36 s37 hw => ?_)) (zout hX hR hTb)
  obtain ⟨a43, n44, f45, r46, g47, m48, i49, hw⟩ := hw
  refine z_iast hX dX3_readAll_34 r46 g47 m48 i49 (z_nm (fun s50 e51 => ?_))
  have hw := hw s50 e51
  refine z_aload_n hX dX3_readAll_35 rfl (i := 0) rfl ?_
  obtain ⟨a53, f54, v52, r55, m56, e57, hw⟩ := hw
  refine z_get hX zc4 (k := 1) dX3_readAll_36 (Nat.le_of_ble_eq_true rfl) (zlk hX q2470) r55 m56 e57 ?_
  refine z_iconst hX (v := (3 : Int32)) dX3_readAll_39 (by decide) ?_
  refine z_aload_n hX dX3_readAll_40 rfl (i := 0) rfl ?_
  refine z_ldcwS hX (tx := "friendly") (j := 20) dX3_readAll_41 (List.mem_of_getElem? (i := 20) rfl) ?_
  obtain ⟨a61, f62, r63, m64, hw⟩ := hw
  refine z_invV hX hd r63 (ci := 4) rfl rfl m64 dX3_readAll_44 (hC 278 _ zm278 _ _ _ _ hw) q3088 q3090 qs114 zh7 q3091 q136 zn278 rfl (Nat.le_of_ble_eq_true rfl) (st := [.int (3 : Int32), va_rf v52]) rfl (zcs8 (Nat.le_of_ble_eq_true rfl)) rfl (zkI (fun v58 s59 hw => ?_)) (zout hX hR hTb)
  refine zJ_w (P := fun (j : Int32 → zS → Prop) => ∀ (p65 : Int32) (s66 : zS), j p65 s66 → zW X s66 55 [some (va_rf (some a0))] [.int p65, .int (3 : Int32), va_rf v52]) hw (fun p65 s66 hw => ?_) (fun j67 hj67 hw => ?_)
  · obtain ⟨a68, n69, f70, r71, g72, m73, i74, hw⟩ := hw
    refine z_iast hX dX3_readAll_55 r71 g72 m73 i74 (z_nm (fun s75 e76 => ?_))
    have hw := hw s75 e76
    refine z_aload_n hX dX3_readAll_56 rfl (i := 0) rfl ?_
    refine z_bipush hX (v := (59 : Int32)) dX3_readAll_57 (by decide) ?_
    obtain ⟨a80, f81, r82, m83, hw⟩ := hw
    refine z_invV hX hd r82 (ci := 4) rfl rfl m83 dX3_readAll_59 (hC 279 _ zm279 _ _ _ _ hw) q3092 q3094 qs115 zh7 q3095 q136 zn279 rfl (Nat.le_of_ble_eq_true rfl) (st := []) rfl (zcs8 (Nat.le_of_ble_eq_true rfl)) rfl (zkV (fun s78 hw => ?_)) (zout hX hR hTb)
    obtain ⟨n162, hw⟩ := hw
    refine zIt_w (P := fun (j : zS → Prop) => ∀  (s84 : zS), j  s84 → zW X s84 62 [some (va_rf (some a0))] []) (fun  _ h => h.elim) (fun rec85 hrec85  s84 hw => ?_) n162  _ hw
    refine z_aload_n hX dX3_readAll_62 rfl (i := 0) rfl ?_
    refine z_ldcwS hX (tx := "item") (j := 21) dX3_readAll_63 (List.mem_of_getElem? (i := 21) rfl) ?_
    obtain ⟨a89, f90, r91, m92, hw⟩ := hw
    refine z_invV hX hd r91 (ci := 4) rfl rfl m92 dX3_readAll_66 (hC 272 _ zm272 _ _ _ _ hw) q3055 q3057 qs108 zh7 q3058 q136 zn272 rfl (Nat.le_of_ble_eq_true rfl) (st := []) rfl (zcs8 (Nat.le_of_ble_eq_true rfl)) rfl (zkI (fun v86 s87 hw => ?_)) (zout hX hR hTb)
    refine z_if_eq hX dX3_readAll_69 (tgt := 79) rfl (fun c93 => ?_) (fun c93 => ?_)
    · have hw := hw.1 c93
      obtain ⟨n154, hw⟩ := hw
      refine zIt_w (P := fun (j : zS → Prop) => ∀  (s94 : zS), j  s94 → zW X s94 79 [some (va_rf (some a0))] []) (fun  _ h => h.elim) (fun rec95 hrec95  s94 hw => ?_) n154  _ hw
      refine z_aload_n hX dX3_readAll_79 rfl (i := 0) rfl ?_
      refine z_ldcwS hX (tx := "plan") (j := 22) dX3_readAll_80 (List.mem_of_getElem? (i := 22) rfl) ?_
      obtain ⟨a99, f100, r101, m102, hw⟩ := hw
      refine z_invV hX hd r101 (ci := 4) rfl rfl m102 dX3_readAll_83 (hC 272 _ zm272 _ _ _ _ hw) q3055 q3057 qs108 zh7 q3058 q136 zn272 rfl (Nat.le_of_ble_eq_true rfl) (st := []) rfl (zcs8 (Nat.le_of_ble_eq_true rfl)) rfl (zkI (fun v96 s97 hw => ?_)) (zout hX hR hTb)
      refine zJ_w (P := fun (j : zS → Prop) => ∀  (s103 : zS), j  s103 → zW X s103 99 [some (va_rf (some a0))] []) hw (fun  s103 hw => ?_) (fun j104 hj104 hw => ?_)
      · refine z_aload_n hX dX3_readAll_99 rfl (i := 0) rfl ?_
        refine z_aload_n hX dX3_readAll_100 rfl (i := 0) rfl ?_
        refine z_ldcwS hX (tx := "plan") (j := 22) dX3_readAll_101 (List.mem_of_getElem? (i := 22) rfl) ?_
        obtain ⟨a108, f109, r110, m111, hw⟩ := hw
        refine z_invV hX hd r110 (ci := 4) rfl rfl m111 dX3_readAll_104 (hC 272 _ zm272 _ _ _ _ hw) q3055 q3057 qs108 zh7 q3058 q136 zn272 rfl (Nat.le_of_ble_eq_true rfl) (st := [va_rf (some a0)]) rfl (zcs8 (Nat.le_of_ble_eq_true rfl)) rfl (zkI (fun v105 s106 hw => ?_)) (zout hX hR hTb)
        obtain ⟨a115, f116, r117, m118, hw⟩ := hw
        refine z_invV hX hd r117 (ci := 4) rfl rfl m118 dX3_readAll_107 (hC 282 _ zm282 _ _ _ _ hw) q3107 q3109 qs118 zh7 q3110 q136 zn282 rfl (Nat.le_of_ble_eq_true rfl) (st := []) rfl (zcs8 (Nat.le_of_ble_eq_true rfl)) rfl (zkV (fun s113 hw => ?_)) (zout hX hR hTb)
        refine z_goto hX dX3_readAll_110 (tgt := 79) rfl ?_
        exact hrec95  _ hw
      · refine z_if_ne hX dX3_readAll_86 (tgt := 99) rfl (fun c119 => ?_) (fun c119 => ?_)
        · have hw := hw.1 c119
          exact hj104  _ hw
        · have hw := hw.2 c119
          refine z_aload_n hX dX3_readAll_89 rfl (i := 0) rfl ?_
          refine z_ldcwS hX (tx := "answer") (j := 23) dX3_readAll_90 (List.mem_of_getElem? (i := 23) rfl) ?_
          obtain ⟨a123, f124, r125, m126, hw⟩ := hw
          refine z_invV hX hd r125 (ci := 4) rfl rfl m126 dX3_readAll_93 (hC 272 _ zm272 _ _ _ _ hw) q3055 q3057 qs108 zh7 q3058 q136 zn272 rfl (Nat.le_of_ble_eq_true rfl) (st := []) rfl (zcs8 (Nat.le_of_ble_eq_true rfl)) rfl (zkI (fun v120 s121 hw => ?_)) (zout hX hR hTb)
          refine z_if_eq hX dX3_readAll_96 (tgt := 113) rfl (fun c127 => ?_) (fun c127 => ?_)
          · have hw := hw.1 c127
            refine z_aload_n hX dX3_readAll_113 rfl (i := 0) rfl ?_
            refine z_aload_n hX dX3_readAll_114 rfl (i := 0) rfl ?_
            obtain ⟨a129, f130, v128, r131, m132, e133, hw⟩ := hw
            refine z_get hX zc4 (k := 33) dX3_readAll_115 (Nat.le_of_ble_eq_true rfl) (zlk hX q2502) r131 m132 e133 ?_
            refine zJ_w (P := fun (j : Int32 → zS → Prop) => ∀ (p134 : Int32) (s135 : zS), j p134 s135 → zW X s135 133 [none] [.int p134, va_rf (some a0)]) hw (fun p134 s135 hw => ?_) (fun j136 hj136 hw => ?_)
            · refine z_iconst hX (v := (1 : Int32)) dX3_readAll_133 (by decide) ?_
              obtain ⟨a140, f141, r142, m143, hw⟩ := hw
              refine z_invV hX hd r142 (ci := 4) rfl rfl m143 dX3_readAll_134 (hC 273 _ zm273 _ _ _ _ hw) q3061 q3063 qs109 zh7 q3064 q136 zn273 rfl (Nat.le_of_ble_eq_true rfl) (st := []) rfl (zcs8 (Nat.le_of_ble_eq_true rfl)) rfl (zkV (fun s138 hw => ?_)) (zout hX hR hTb)
              exact z_return hX hR dX3_readAll_137 hw
            · refine zJ_w (P := fun (j : zS → Prop) => ∀  (s144 : zS), j  s144 → zW X s144 128 [none] [va_rf (some a0)]) hw (fun  s144 hw => ?_) (fun j145 hj145 hw => ?_)
              · refine z_iconst hX (v := (1 : Int32)) dX3_readAll_128 (by decide) ?_
                refine z_goto hX dX3_readAll_129 (tgt := 133) rfl ?_
                exact hj136 _ _ hw
              · refine z_if_ne hX dX3_readAll_118 (tgt := 128) rfl (fun c146 => ?_) (fun c146 => ?_)
                · have hw := hw.1 c146
                  refine z_sub (ls' := [none]) (zsN (zs0)) ?_
                  exact hj145  _ hw
                · have hw := hw.2 c146
                  refine z_aload_n hX dX3_readAll_121 rfl (i := 0) rfl ?_
                  obtain ⟨a148, f149, v147, r150, m151, e152, hw⟩ := hw
                  refine z_get hX zc4 (k := 32) dX3_readAll_122 (Nat.le_of_ble_eq_true rfl) (zlk hX q2501) r150 m151 e152 ?_
                  refine z_if_ne hX dX3_readAll_125 (tgt := 132) rfl (fun c153 => ?_) (fun c153 => ?_)
                  · have hw := hw.1 c153
                    refine z_iconst hX (v := (0 : Int32)) dX3_readAll_132 (by decide) ?_
                    refine z_sub (ls' := [none]) (zsN (zs0)) ?_
                    exact hj136 _ _ hw
                  · have hw := hw.2 c153
                    refine z_sub (ls' := [none]) (zsN (zs0)) ?_
                    exact hj145  _ hw
          · have hw := hw.2 c127
            exact hj104  _ hw
    · have hw := hw.2 c93
      refine z_aload_n hX dX3_readAll_72 rfl (i := 0) rfl ?_
      obtain ⟨a158, f159, r160, m161, hw⟩ := hw
      refine z_invV hX hd r160 (ci := 4) rfl rfl m161 dX3_readAll_73 (hC 281 _ zm281 _ _ _ _ hw) q3101 q3103 qs117 zh7 q3104 q136 zn281 rfl (Nat.le_of_ble_eq_true rfl) (st := []) rfl (zcs8 (Nat.le_of_ble_eq_true rfl)) rfl (zkV (fun s156 hw => ?_)) (zout hX hR hTb)
      refine z_goto hX dX3_readAll_76 (tgt := 62) rfl ?_
      exact hrec85  _ hw
  · refine z_if_eq hX dX3_readAll_47 (tgt := 54) rfl (fun c163 => ?_) (fun c163 => ?_)
    · have hw := hw.1 c163
      refine z_iconst hX (v := (0 : Int32)) dX3_readAll_54 (by decide) ?_
      exact hj67 _ _ hw
    · have hw := hw.2 c163
      refine z_iconst hX (v := (1 : Int32)) dX3_readAll_50 (by decide) ?_
      refine z_goto hX dX3_readAll_51 (tgt := 55) rfl ?_
      exact hj67 _ _ hw
abbrev cX3_expectWord : ByteArray := prog_28_method_123_code
def yX3_expectWord : MethodName := ⟨RX3, "expectWord", "(Ljava/lang/String;)V"⟩
def dkwX3_expectWord_0 : List UInt8 := [42, 42, 43, 182, 1, 174, 4, 182, 1, 178, 42, 182, 1, 181, 177]
abbrev dktX3_expectWord_0 : List UInt8 := dkwX3_expectWord_0 ++ []
theorem dksX3_expectWord_0 : cX3_expectWord.data.toList.drop 0 = dktX3_expectWord_0 := by decide +kernel
theorem dX3_expectWord_0 : decode cX3_expectWord 0 = .ok (.aload_n 0, 1) := dk_42 (dk_at dksX3_expectWord_0 0 rfl rfl)
theorem dX3_expectWord_1 : decode cX3_expectWord 1 = .ok (.aload_n 0, 1) := dk_42 (dk_at dksX3_expectWord_0 1 rfl rfl)
theorem dX3_expectWord_2 : decode cX3_expectWord 2 = .ok (.aload_n 1, 1) := dk_43 (dk_at dksX3_expectWord_0 2 rfl rfl)
theorem dX3_expectWord_3 : decode cX3_expectWord 3 = .ok (.invokevirtual 430, 3) := dk_182 1 174 (dk_at dksX3_expectWord_0 3 rfl rfl)
theorem dX3_expectWord_6 : decode cX3_expectWord 6 = .ok (.iconst 1, 1) := dk_4 (dk_at dksX3_expectWord_0 6 rfl rfl)
theorem dX3_expectWord_7 : decode cX3_expectWord 7 = .ok (.invokevirtual 434, 3) := dk_182 1 178 (dk_at dksX3_expectWord_0 7 rfl rfl)
theorem dX3_expectWord_10 : decode cX3_expectWord 10 = .ok (.aload_n 0, 1) := dk_42 (dk_at dksX3_expectWord_0 10 rfl rfl)
theorem dX3_expectWord_11 : decode cX3_expectWord 11 = .ok (.invokevirtual 437, 3) := dk_182 1 181 (dk_at dksX3_expectWord_0 11 rfl rfl)
theorem dX3_expectWord_14 : decode cX3_expectWord 14 = .ok (.return_, 1) := dk_177 (dk_at dksX3_expectWord_0 14 rfl rfl)
/-- PackingDuelModel.expectWord(Ljava/lang/String;)V -/
def zb271 (G : zPg) (C : zO) (args : List Value) (Q : zQ) (Y : zY) (σ : zS) : Prop := ∃ (a0 : Nat) (x1 : Option Nat), args = [.ref a0, va_rf x1] ∧ (zrc σ (some a0) 4 (fun a4 => zcl C 272 [.ref a4, va_rf x1] Y σ (zqI (fun v1 s2 => zrc s2 (some a0) 4 (fun a11 => zcl C 273 [.ref a11, .int v1, .int (1 : Int32)] Y s2 (zqV (fun s9 => zrc s9 (some a0) 4 (fun a18 => zcl C 275 [.ref a18] Y s9 (zqV (fun s16 => Q none s16))))))))))
set_option maxHeartbeats 4000000 in
theorem wk271 {l : Launch} {g : zG} {d : Nat} {C : zO} (hG : zGk g) (hC : zSound l g d C) {args : List Value} {Q : zQ} {Y : zY} {σ : zS} (hw : zb271 (zpg g) C args Q Y σ) : zMet l g (d + 1) (⟨"PackingDuelModel", "expectWord", "(Ljava/lang/String;)V"⟩, Cond.code ⟨"PackingDuelModel", "expectWord", "(Ljava/lang/String;)V"⟩ prog_28_method_123_code 2 (Option.none : Option FieldType)) args σ Q Y := by
  obtain ⟨a0, x1, rfl, hw⟩ := hw
  refine zof hG (by decide +kernel) [false, false] ⟨rfl, (zc_rf _), trivial⟩ (Nat.le_of_ble_eq_true rfl) (ls := [some (va_rf (some a0)), some (va_rf x1)]) rfl ?_
  intro X hX hR hTb hd1 hd2 hl hg hnm
  subst hl
  subst hg
  have hd : zDep X d := ⟨hd1, hd2⟩
  refine z_aload_n hX dX3_expectWord_0 rfl (i := 0) rfl ?_
  refine z_aload_n hX dX3_expectWord_1 rfl (i := 0) rfl ?_
  refine z_aload_n hX dX3_expectWord_2 rfl (i := 1) rfl ?_
  obtain ⟨a4, f5, r6, m7, hw⟩ := hw
  refine z_invV hX hd r6 (ci := 4) rfl rfl m7 dX3_expectWord_3 (hC 272 _ zm272 _ _ _ _ hw) q3055 q3057 qs108 zh7 q3058 q136 zn272 rfl (Nat.le_of_ble_eq_true rfl) (st := [va_rf (some a0)]) rfl (zcs8 (Nat.le_of_ble_eq_true rfl)) rfl (zkI (fun v1 s2 hw => ?_)) (zout hX hR hTb)
  refine z_iconst hX (v := (1 : Int32)) dX3_expectWord_6 (by decide) ?_
  obtain ⟨a11, f12, r13, m14, hw⟩ := hw
  refine z_invV hX hd r13 (ci := 4) rfl rfl m14 dX3_expectWord_7 (hC 273 _ zm273 _ _ _ _ hw) q3061 q3063 qs109 zh7 q3064 q136 zn273 rfl (Nat.le_of_ble_eq_true rfl) (st := []) rfl (zcs8 (Nat.le_of_ble_eq_true rfl)) rfl (zkV (fun s9 hw => ?_)) (zout hX hR hTb)
  refine z_aload_n hX dX3_expectWord_10 rfl (i := 0) rfl ?_
  obtain ⟨a18, f19, r20, m21, hw⟩ := hw
  refine z_invV hX hd r20 (ci := 4) rfl rfl m21 dX3_expectWord_11 (hC 275 _ zm275 _ _ _ _ hw) q3069 q3071 qs111 zh7 q3072 q136 zn275 rfl (Nat.le_of_ble_eq_true rfl) (st := []) rfl (zcs8 (Nat.le_of_ble_eq_true rfl)) rfl (zkV (fun s16 hw => ?_)) (zout hX hR hTb)
  exact z_return hX hR dX3_expectWord_14 hw
abbrev cX3_isWord : ByteArray := prog_28_method_121_code
def yX3_isWord : MethodName := ⟨RX3, "isWord", "(Ljava/lang/String;)Z"⟩
def dkwX3_isWord_3 : List UInt8 := [167, 0, 4, 3, 61, 132, 3, 1, 167, 255, 216, 28, 172]
abbrev dktX3_isWord_3 : List UInt8 := dkwX3_isWord_3 ++ []
def dkwX3_isWord_2 : List UInt8 := [162, 0, 34, 43, 29, 182, 1, 170, 42, 180, 0, 62, 42, 180, 1, 140, 29, 96, 46, 160, 0, 7, 4]
abbrev dktX3_isWord_2 : List UInt8 := dkwX3_isWord_2 ++ dktX3_isWord_3
def dkwX3_isWord_1 : List UInt8 := [180, 1, 140, 100, 160, 0, 7, 4, 167, 0, 4, 3, 61, 3, 62, 28, 153, 0, 42, 29, 43, 182, 1, 167]
abbrev dktX3_isWord_1 : List UInt8 := dkwX3_isWord_1 ++ dktX3_isWord_2
def dkwX3_isWord_0 : List UInt8 := [42, 180, 1, 152, 154, 0, 31, 42, 180, 1, 143, 4, 160, 0, 23, 43, 182, 1, 167, 42, 180, 1, 137, 42]
abbrev dktX3_isWord_0 : List UInt8 := dkwX3_isWord_0 ++ dktX3_isWord_1
theorem dksX3_isWord_0 : cX3_isWord.data.toList.drop 0 = dktX3_isWord_0 := by decide +kernel
theorem dksX3_isWord_1 : cX3_isWord.data.toList.drop 24 = dktX3_isWord_1 := dk_seg dksX3_isWord_0 24 rfl rfl
theorem dksX3_isWord_2 : cX3_isWord.data.toList.drop 48 = dktX3_isWord_2 := dk_seg dksX3_isWord_1 24 rfl rfl
theorem dksX3_isWord_3 : cX3_isWord.data.toList.drop 71 = dktX3_isWord_3 := dk_seg dksX3_isWord_2 23 rfl rfl
theorem dX3_isWord_0 : decode cX3_isWord 0 = .ok (.aload_n 0, 1) := dk_42 (dk_at dksX3_isWord_0 0 rfl rfl)
theorem dX3_isWord_1 : decode cX3_isWord 1 = .ok (.getfield 408, 3) := dk_180 1 152 (dk_at dksX3_isWord_0 1 rfl rfl)
theorem dX3_isWord_4 : decode cX3_isWord 4 = .ok (.ifCond .ne 31, 3) := dk_154 0 31 (dk_at dksX3_isWord_0 4 rfl rfl)
theorem dX3_isWord_7 : decode cX3_isWord 7 = .ok (.aload_n 0, 1) := dk_42 (dk_at dksX3_isWord_0 7 rfl rfl)
theorem dX3_isWord_8 : decode cX3_isWord 8 = .ok (.getfield 399, 3) := dk_180 1 143 (dk_at dksX3_isWord_0 8 rfl rfl)
theorem dX3_isWord_11 : decode cX3_isWord 11 = .ok (.iconst 1, 1) := dk_4 (dk_at dksX3_isWord_0 11 rfl rfl)
theorem dX3_isWord_12 : decode cX3_isWord 12 = .ok (.if_icmp .ne 23, 3) := dk_160 0 23 (dk_at dksX3_isWord_0 12 rfl rfl)
theorem dX3_isWord_15 : decode cX3_isWord 15 = .ok (.aload_n 1, 1) := dk_43 (dk_at dksX3_isWord_0 15 rfl rfl)
theorem dX3_isWord_16 : decode cX3_isWord 16 = .ok (.invokevirtual 423, 3) := dk_182 1 167 (dk_at dksX3_isWord_0 16 rfl rfl)
theorem dX3_isWord_19 : decode cX3_isWord 19 = .ok (.aload_n 0, 1) := dk_42 (dk_at dksX3_isWord_0 19 rfl rfl)
theorem dX3_isWord_20 : decode cX3_isWord 20 = .ok (.getfield 393, 3) := dk_180 1 137 (dk_at dksX3_isWord_0 20 rfl rfl)
theorem dX3_isWord_23 : decode cX3_isWord 23 = .ok (.aload_n 0, 1) := dk_42 (dk_at dksX3_isWord_0 23 rfl rfl)
theorem dX3_isWord_24 : decode cX3_isWord 24 = .ok (.getfield 396, 3) := dk_180 1 140 (dk_at dksX3_isWord_1 0 rfl rfl)
theorem dX3_isWord_27 : decode cX3_isWord 27 = .ok (.isub, 1) := dk_100 (dk_at dksX3_isWord_1 3 rfl rfl)
theorem dX3_isWord_28 : decode cX3_isWord 28 = .ok (.if_icmp .ne 7, 3) := dk_160 0 7 (dk_at dksX3_isWord_1 4 rfl rfl)
theorem dX3_isWord_31 : decode cX3_isWord 31 = .ok (.iconst 1, 1) := dk_4 (dk_at dksX3_isWord_1 7 rfl rfl)
theorem dX3_isWord_32 : decode cX3_isWord 32 = .ok (.goto 4, 3) := dk_167 0 4 (dk_at dksX3_isWord_1 8 rfl rfl)
theorem dX3_isWord_35 : decode cX3_isWord 35 = .ok (.iconst 0, 1) := dk_3 (dk_at dksX3_isWord_1 11 rfl rfl)
theorem dX3_isWord_36 : decode cX3_isWord 36 = .ok (.istore_n 2, 1) := dk_61 (dk_at dksX3_isWord_1 12 rfl rfl)
theorem dX3_isWord_37 : decode cX3_isWord 37 = .ok (.iconst 0, 1) := dk_3 (dk_at dksX3_isWord_1 13 rfl rfl)
theorem dX3_isWord_38 : decode cX3_isWord 38 = .ok (.istore_n 3, 1) := dk_62 (dk_at dksX3_isWord_1 14 rfl rfl)
theorem dX3_isWord_39 : decode cX3_isWord 39 = .ok (.iload_n 2, 1) := dk_28 (dk_at dksX3_isWord_1 15 rfl rfl)
theorem dX3_isWord_40 : decode cX3_isWord 40 = .ok (.ifCond .eq 42, 3) := dk_153 0 42 (dk_at dksX3_isWord_1 16 rfl rfl)
theorem dX3_isWord_43 : decode cX3_isWord 43 = .ok (.iload_n 3, 1) := dk_29 (dk_at dksX3_isWord_1 19 rfl rfl)
theorem dX3_isWord_44 : decode cX3_isWord 44 = .ok (.aload_n 1, 1) := dk_43 (dk_at dksX3_isWord_1 20 rfl rfl)
theorem dX3_isWord_45 : decode cX3_isWord 45 = .ok (.invokevirtual 423, 3) := dk_182 1 167 (dk_at dksX3_isWord_1 21 rfl rfl)
theorem dX3_isWord_48 : decode cX3_isWord 48 = .ok (.if_icmp .ge 34, 3) := dk_162 0 34 (dk_at dksX3_isWord_2 0 rfl rfl)
theorem dX3_isWord_51 : decode cX3_isWord 51 = .ok (.aload_n 1, 1) := dk_43 (dk_at dksX3_isWord_2 3 rfl rfl)
theorem dX3_isWord_52 : decode cX3_isWord 52 = .ok (.iload_n 3, 1) := dk_29 (dk_at dksX3_isWord_2 4 rfl rfl)
theorem dX3_isWord_53 : decode cX3_isWord 53 = .ok (.invokevirtual 426, 3) := dk_182 1 170 (dk_at dksX3_isWord_2 5 rfl rfl)
theorem dX3_isWord_56 : decode cX3_isWord 56 = .ok (.aload_n 0, 1) := dk_42 (dk_at dksX3_isWord_2 8 rfl rfl)
theorem dX3_isWord_57 : decode cX3_isWord 57 = .ok (.getfield 62, 3) := dk_180 0 62 (dk_at dksX3_isWord_2 9 rfl rfl)
theorem dX3_isWord_60 : decode cX3_isWord 60 = .ok (.aload_n 0, 1) := dk_42 (dk_at dksX3_isWord_2 12 rfl rfl)
theorem dX3_isWord_61 : decode cX3_isWord 61 = .ok (.getfield 396, 3) := dk_180 1 140 (dk_at dksX3_isWord_2 13 rfl rfl)
theorem dX3_isWord_64 : decode cX3_isWord 64 = .ok (.iload_n 3, 1) := dk_29 (dk_at dksX3_isWord_2 16 rfl rfl)
theorem dX3_isWord_65 : decode cX3_isWord 65 = .ok (.iadd, 1) := dk_96 (dk_at dksX3_isWord_2 17 rfl rfl)
theorem dX3_isWord_66 : decode cX3_isWord 66 = .ok (.iaload, 1) := dk_46 (dk_at dksX3_isWord_2 18 rfl rfl)
theorem dX3_isWord_67 : decode cX3_isWord 67 = .ok (.if_icmp .ne 7, 3) := dk_160 0 7 (dk_at dksX3_isWord_2 19 rfl rfl)
theorem dX3_isWord_70 : decode cX3_isWord 70 = .ok (.iconst 1, 1) := dk_4 (dk_at dksX3_isWord_2 22 rfl rfl)
theorem dX3_isWord_71 : decode cX3_isWord 71 = .ok (.goto 4, 3) := dk_167 0 4 (dk_at dksX3_isWord_3 0 rfl rfl)
theorem dX3_isWord_74 : decode cX3_isWord 74 = .ok (.iconst 0, 1) := dk_3 (dk_at dksX3_isWord_3 3 rfl rfl)
theorem dX3_isWord_75 : decode cX3_isWord 75 = .ok (.istore_n 2, 1) := dk_61 (dk_at dksX3_isWord_3 4 rfl rfl)
theorem dX3_isWord_76 : decode cX3_isWord 76 = .ok (.iinc 3 1, 3) := dk_132 3 1 (dk_at dksX3_isWord_3 5 rfl rfl)
theorem dX3_isWord_79 : decode cX3_isWord 79 = .ok (.goto (-40), 3) := dk_167 255 216 (dk_at dksX3_isWord_3 8 rfl rfl)
theorem dX3_isWord_82 : decode cX3_isWord 82 = .ok (.iload_n 2, 1) := dk_28 (dk_at dksX3_isWord_3 11 rfl rfl)
theorem dX3_isWord_83 : decode cX3_isWord 83 = .ok (.ireturn, 1) := dk_172 (dk_at dksX3_isWord_3 12 rfl rfl)
/-- PackingDuelModel.isWord(Ljava/lang/String;)Z -/
def zb272 (G : zPg) (C : zO) (args : List Value) (Q : zQ) (Y : zY) (σ : zS) : Prop := ∃ (a0 : Nat) (x1 : Option Nat), args = [.ref a0, va_rf x1] ∧ (zgI σ (some a0) 4 33 (fun v1 => zJ (fun (p7 : Int32) (s8 : zS) => ∃ n, zIt (fun _ _ _ => False) (fun rec13 (p10 : Int32) (p11 : Int32) (s12 : zS) => zJ (fun  (s14 : zS) => zbool p10 ∧ Q (some (.int p10)) s14) (fun (j15 : zS → Prop) => ((p10 = 0) → j15 s12) ∧ ((¬ p10 = 0) → zrc s12 x1 9 (fun a20 => zcl C 355 [.ref a20] Y s12 (zqI (fun v17 s18 => ((v17 ≤ p11) → j15 s18) ∧ ((¬ v17 ≤ p11) → zrc s18 x1 9 (fun a28 => zcl C 357 [.ref a28, .int p11] Y s18 (zqI (fun v25 s26 => zgR s26 (some a0) 4 27 (fun v32 => zgI s26 (some a0) 4 31 (fun v38 => zaI s26 0 v32 (v38 + p11) (fun v50 => zJ (fun (p52 : Int32) (s53 : zS) => (∀ v55 : Int32, v55 = p11 + (1 : Int32) → rec13 p52 v55 s53)) (fun (j54 : Int32 → zS → Prop) => ((¬ v25 = v50) → j54 (0 : Int32) s26) ∧ ((v25 = v50) → j54 (1 : Int32) s26))))))))))))))) n p7 (0 : Int32) s8) (fun (j9 : Int32 → zS → Prop) => zJ (fun  (s59 : zS) => j9 (0 : Int32) s59) (fun (j60 : zS → Prop) => ((¬ v1 = 0) → j60 σ) ∧ ((v1 = 0) → zgI σ (some a0) 4 32 (fun v62 => ((¬ v62 = (1 : Int32)) → j60 σ) ∧ ((v62 = (1 : Int32)) → zrc σ x1 9 (fun a72 => zcl C 355 [.ref a72] Y σ (zqI (fun v69 s70 => zgI s70 (some a0) 4 30 (fun v76 => zgI s70 (some a0) 4 31 (fun v82 => ((¬ v69 = (v76 - v82)) → j60 s70) ∧ ((v69 = (v76 - v82)) → j9 (1 : Int32) s70)))))))))))))
set_option maxHeartbeats 4000000 in
theorem wk272 {l : Launch} {g : zG} {d : Nat} {C : zO} (hG : zGk g) (hC : zSound l g d C) {args : List Value} {Q : zQ} {Y : zY} {σ : zS} (hw : zb272 (zpg g) C args Q Y σ) : zMet l g (d + 1) (⟨"PackingDuelModel", "isWord", "(Ljava/lang/String;)Z"⟩, Cond.code ⟨"PackingDuelModel", "isWord", "(Ljava/lang/String;)Z"⟩ prog_28_method_121_code 4 (Option.some FieldType.boolean)) args σ Q Y := by
  obtain ⟨a0, x1, rfl, hw⟩ := hw
  refine zof hG (by decide +kernel) [false, false] ⟨rfl, (zc_rf _), trivial⟩ (Nat.le_of_ble_eq_true rfl) (ls := [some (va_rf (some a0)), some (va_rf x1), none, none]) rfl ?_
  intro X hX hR hTb hd1 hd2 hl hg hnm
  subst hl
  subst hg
  have hd : zDep X d := ⟨hd1, hd2⟩
  refine z_aload_n hX dX3_isWord_0 rfl (i := 0) rfl ?_
  obtain ⟨a2, f3, v1, r4, m5, e6, hw⟩ := hw
  refine z_get hX zc4 (k := 33) dX3_isWord_1 (Nat.le_of_ble_eq_true rfl) (zlk hX q2502) r4 m5 e6 ?_
  refine zJ_w (P := fun (j : Int32 → zS → Prop) => ∀ (p7 : Int32) (s8 : zS), j p7 s8 → zW X s8 36 [some (va_rf (some a0)), some (va_rf x1), none, none] [.int p7]) hw (fun p7 s8 hw => ?_) (fun j9 hj9 hw => ?_)
  · refine z_istore_n hX dX3_isWord_36 rfl (i := 2) (Nat.le_of_ble_eq_true rfl) (zc_rf _) (ls2 := [some (va_rf (some a0)), some (va_rf x1), some (.int p7), none]) rfl ?_
    refine z_iconst hX (v := (0 : Int32)) dX3_isWord_37 (by decide) ?_
    refine z_istore_n hX dX3_isWord_38 rfl (i := 3) (Nat.le_of_ble_eq_true rfl) rfl (ls2 := [some (va_rf (some a0)), some (va_rf x1), some (.int p7), some (.int (0 : Int32))]) rfl ?_
    obtain ⟨n58, hw⟩ := hw
    refine zIt_w (P := fun (j : Int32 → Int32 → zS → Prop) => ∀ (p10 : Int32) (p11 : Int32) (s12 : zS), j p10 p11 s12 → zW X s12 39 [some (va_rf (some a0)), some (va_rf x1), some (.int p10), some (.int p11)] []) (fun _ _ _ h => h.elim) (fun rec13 hrec13 p10 p11 s12 hw => ?_) n58 _ _ _ hw
    refine z_iload_n hX dX3_isWord_39 rfl (i := 2) rfl ?_
    refine zJ_w (P := fun (j : zS → Prop) => ∀  (s14 : zS), j  s14 → zW X s14 82 [none, none, some (.int p10), none] []) hw (fun  s14 hw => ?_) (fun j15 hj15 hw => ?_)
    · refine z_iload_n hX dX3_isWord_82 rfl (i := 2) rfl ?_
      exact z_ireturn hX hR dX3_isWord_83 (zn_z hw.1) hw.2
    · refine z_if_eq hX dX3_isWord_40 (tgt := 82) rfl (fun c16 => ?_) (fun c16 => ?_)
      · have hw := hw.1 c16
        refine z_sub (ls' := [none, none, some (.int p10), none]) (zsN (zsN (zsS (zsN (zs0))))) ?_
        exact hj15  _ hw
      · have hw := hw.2 c16
        refine z_iload_n hX dX3_isWord_43 rfl (i := 3) rfl ?_
        refine z_aload_n hX dX3_isWord_44 rfl (i := 1) rfl ?_
        obtain ⟨a20, f21, r22, m23, hw⟩ := hw
        refine z_invV hX hd r22 (ci := 9) rfl rfl m23 dX3_isWord_45 (hC 355 _ zm355 _ _ _ _ hw) q3059 q1005 q1006 zh17 q1007 q146 zn355 rfl (Nat.le_of_ble_eq_true rfl) (st := [.int p11]) rfl (zcs8 (Nat.le_of_ble_eq_true rfl)) rfl (zkI (fun v17 s18 hw => ?_)) (zout hX hR hTb)
        refine z_icmp_ge hX dX3_isWord_48 (tgt := 82) rfl (fun c24 => ?_) (fun c24 => ?_)
        · have hw := hw.1 c24
          refine z_sub (ls' := [none, none, some (.int p10), none]) (zsN (zsN (zsS (zsN (zs0))))) ?_
          exact hj15  _ hw
        · have hw := hw.2 c24
          refine z_aload_n hX dX3_isWord_51 rfl (i := 1) rfl ?_
          refine z_iload_n hX dX3_isWord_52 rfl (i := 3) rfl ?_
          obtain ⟨a28, f29, r30, m31, hw⟩ := hw
          refine z_invV hX hd r30 (ci := 9) rfl rfl m31 dX3_isWord_53 (hC 357 _ zm357 _ _ _ _ hw) q3060 q1018 q1019 zh17 q1020 q146 zn357 rfl (Nat.le_of_ble_eq_true rfl) (st := []) rfl (zcs8 (Nat.le_of_ble_eq_true rfl)) rfl (zkI (fun v25 s26 hw => ?_)) (zout hX hR hTb)
          refine z_aload_n hX dX3_isWord_56 rfl (i := 0) rfl ?_
          obtain ⟨a33, f34, v32, r35, m36, e37, hw⟩ := hw
          refine z_get hX zc4 (k := 27) dX3_isWord_57 (Nat.le_of_ble_eq_true rfl) (zlk hX q2496) r35 m36 e37 ?_
          refine z_aload_n hX dX3_isWord_60 rfl (i := 0) rfl ?_
          obtain ⟨a39, f40, v38, r41, m42, e43, hw⟩ := hw
          refine z_get hX zc4 (k := 31) dX3_isWord_61 (Nat.le_of_ble_eq_true rfl) (zlk hX q2500) r41 m42 e43 ?_
          refine z_iload_n hX dX3_isWord_64 rfl (i := 3) rfl ?_
          refine z_iadd hX dX3_isWord_65 ?_
          obtain ⟨a44, n45, f46, r47, m48, i49, hw⟩ := hw
          refine z_iald hX dX3_isWord_66 r47 m48 i49 ?_
          revert hw
          generalize f46 (Int32.toNatClampNeg (v38 + p11)) = v50
          intro hw
          refine zJ_w (P := fun (j : Int32 → zS → Prop) => ∀ (p52 : Int32) (s53 : zS), j p52 s53 → zW X s53 75 [some (va_rf (some a0)), some (va_rf x1), none, some (.int p11)] [.int p52]) hw (fun p52 s53 hw => ?_) (fun j54 hj54 hw => ?_)
          · refine z_istore_n hX dX3_isWord_75 rfl (i := 2) (Nat.le_of_ble_eq_true rfl) (zc_rf _) (ls2 := [some (va_rf (some a0)), some (va_rf x1), some (.int p52), some (.int p11)]) rfl ?_
            obtain ⟨v55, e56⟩ : ∃ y : Int32, y = p11 + (1 : Int32) := ⟨_, rfl⟩
            refine z_iinc hX dX3_isWord_76 (i := 3) (v := v55) rfl (by rw [e56]; rfl) (Nat.le_of_ble_eq_true rfl) rfl (ls2 := [some (va_rf (some a0)), some (va_rf x1), some (.int p52), some (.int v55)]) rfl ?_
            have hw := hw v55 e56
            refine z_goto hX dX3_isWord_79 (tgt := 39) rfl ?_
            exact hrec13 _ _ _ hw
          · refine z_icmp_ne hX dX3_isWord_67 (tgt := 74) rfl (fun c57 => ?_) (fun c57 => ?_)
            · have hw := hw.1 c57
              refine z_iconst hX (v := (0 : Int32)) dX3_isWord_74 (by decide) ?_
              refine z_sub (ls' := [some (va_rf (some a0)), some (va_rf x1), none, some (.int p11)]) (zsS (zsS (zsN (zsS (zs0))))) ?_
              exact hj54 _ _ hw
            · have hw := hw.2 c57
              refine z_iconst hX (v := (1 : Int32)) dX3_isWord_70 (by decide) ?_
              refine z_goto hX dX3_isWord_71 (tgt := 75) rfl ?_
              refine z_sub (ls' := [some (va_rf (some a0)), some (va_rf x1), none, some (.int p11)]) (zsS (zsS (zsN (zsS (zs0))))) ?_
              exact hj54 _ _ hw
  · refine zJ_w (P := fun (j : zS → Prop) => ∀  (s59 : zS), j  s59 → zW X s59 35 [some (va_rf (some a0)), some (va_rf x1), none, none] []) hw (fun  s59 hw => ?_) (fun j60 hj60 hw => ?_)
    · refine z_iconst hX (v := (0 : Int32)) dX3_isWord_35 (by decide) ?_
      exact hj9 _ _ hw
    · refine z_if_ne hX dX3_isWord_4 (tgt := 35) rfl (fun c61 => ?_) (fun c61 => ?_)
      · have hw := hw.1 c61
        exact hj60  _ hw
      · have hw := hw.2 c61
        refine z_aload_n hX dX3_isWord_7 rfl (i := 0) rfl ?_
        obtain ⟨a63, f64, v62, r65, m66, e67, hw⟩ := hw
        refine z_get hX zc4 (k := 32) dX3_isWord_8 (Nat.le_of_ble_eq_true rfl) (zlk hX q2501) r65 m66 e67 ?_
        refine z_iconst hX (v := (1 : Int32)) dX3_isWord_11 (by decide) ?_
        refine z_icmp_ne hX dX3_isWord_12 (tgt := 35) rfl (fun c68 => ?_) (fun c68 => ?_)
        · have hw := hw.1 c68
          exact hj60  _ hw
        · have hw := hw.2 c68
          refine z_aload_n hX dX3_isWord_15 rfl (i := 1) rfl ?_
          obtain ⟨a72, f73, r74, m75, hw⟩ := hw
          refine z_invV hX hd r74 (ci := 9) rfl rfl m75 dX3_isWord_16 (hC 355 _ zm355 _ _ _ _ hw) q3059 q1005 q1006 zh17 q1007 q146 zn355 rfl (Nat.le_of_ble_eq_true rfl) (st := []) rfl (zcs8 (Nat.le_of_ble_eq_true rfl)) rfl (zkI (fun v69 s70 hw => ?_)) (zout hX hR hTb)
          refine z_aload_n hX dX3_isWord_19 rfl (i := 0) rfl ?_
          obtain ⟨a77, f78, v76, r79, m80, e81, hw⟩ := hw
          refine z_get hX zc4 (k := 30) dX3_isWord_20 (Nat.le_of_ble_eq_true rfl) (zlk hX q2499) r79 m80 e81 ?_
          refine z_aload_n hX dX3_isWord_23 rfl (i := 0) rfl ?_
          obtain ⟨a83, f84, v82, r85, m86, e87, hw⟩ := hw
          refine z_get hX zc4 (k := 31) dX3_isWord_24 (Nat.le_of_ble_eq_true rfl) (zlk hX q2500) r85 m86 e87 ?_
          refine z_isub hX dX3_isWord_27 ?_
          refine z_icmp_ne hX dX3_isWord_28 (tgt := 35) rfl (fun c88 => ?_) (fun c88 => ?_)
          · have hw := hw.1 c88
            exact hj60  _ hw
          · have hw := hw.2 c88
            refine z_iconst hX (v := (1 : Int32)) dX3_isWord_31 (by decide) ?_
            refine z_goto hX dX3_isWord_32 (tgt := 36) rfl ?_
            exact hj9 _ _ hw
abbrev cX3_check : ByteArray := prog_28_method_118_code
def yX3_check : MethodName := ⟨RX3, "check", "(ZI)V"⟩
def dkwX3_check_0 : List UInt8 := [27, 154, 0, 8, 42, 28, 182, 1, 164, 177]
abbrev dktX3_check_0 : List UInt8 := dkwX3_check_0 ++ []
theorem dksX3_check_0 : cX3_check.data.toList.drop 0 = dktX3_check_0 := by decide +kernel
theorem dX3_check_0 : decode cX3_check 0 = .ok (.iload_n 1, 1) := dk_27 (dk_at dksX3_check_0 0 rfl rfl)
theorem dX3_check_1 : decode cX3_check 1 = .ok (.ifCond .ne 8, 3) := dk_154 0 8 (dk_at dksX3_check_0 1 rfl rfl)
theorem dX3_check_4 : decode cX3_check 4 = .ok (.aload_n 0, 1) := dk_42 (dk_at dksX3_check_0 4 rfl rfl)
theorem dX3_check_5 : decode cX3_check 5 = .ok (.iload_n 2, 1) := dk_28 (dk_at dksX3_check_0 5 rfl rfl)
theorem dX3_check_6 : decode cX3_check 6 = .ok (.invokevirtual 420, 3) := dk_182 1 164 (dk_at dksX3_check_0 6 rfl rfl)
theorem dX3_check_9 : decode cX3_check 9 = .ok (.return_, 1) := dk_177 (dk_at dksX3_check_0 9 rfl rfl)
/-- PackingDuelModel.check(ZI)V -/
def zb273 (G : zPg) (C : zO) (args : List Value) (Q : zQ) (Y : zY) (σ : zS) : Prop := ∃ (a0 : Nat) (x1 : Int32) (x2 : Int32), args = [.ref a0, .int x1, .int x2] ∧ (zJ (fun  (s1 : zS) => Q none s1) (fun (j2 : zS → Prop) => ((¬ x1 = 0) → j2 σ) ∧ ((x1 = 0) → zrc σ (some a0) 4 (fun a7 => zcl C 274 [.ref a7, .int x2] Y σ (zqV (fun s5 => j2 s5))))))
set_option maxHeartbeats 4000000 in
theorem wk273 {l : Launch} {g : zG} {d : Nat} {C : zO} (hG : zGk g) (hC : zSound l g d C) {args : List Value} {Q : zQ} {Y : zY} {σ : zS} (hw : zb273 (zpg g) C args Q Y σ) : zMet l g (d + 1) (⟨"PackingDuelModel", "check", "(ZI)V"⟩, Cond.code ⟨"PackingDuelModel", "check", "(ZI)V"⟩ prog_28_method_118_code 3 (Option.none : Option FieldType)) args σ Q Y := by
  obtain ⟨a0, x1, x2, rfl, hw⟩ := hw
  refine zof hG (by decide +kernel) [false, false, false] ⟨rfl, rfl, rfl, trivial⟩ (Nat.le_of_ble_eq_true rfl) (ls := [some (va_rf (some a0)), some (.int x1), some (.int x2)]) rfl ?_
  intro X hX hR hTb hd1 hd2 hl hg hnm
  subst hl
  subst hg
  have hd : zDep X d := ⟨hd1, hd2⟩
  refine z_iload_n hX dX3_check_0 rfl (i := 1) rfl ?_
  refine zJ_w (P := fun (j : zS → Prop) => ∀  (s1 : zS), j  s1 → zW X s1 9 [none, none, none] []) hw (fun  s1 hw => ?_) (fun j2 hj2 hw => ?_)
  · exact z_return hX hR dX3_check_9 hw
  · refine z_if_ne hX dX3_check_1 (tgt := 9) rfl (fun c3 => ?_) (fun c3 => ?_)
    · have hw := hw.1 c3
      refine z_sub (ls' := [none, none, none]) (zsN (zsN (zsN (zs0)))) ?_
      exact hj2  _ hw
    · have hw := hw.2 c3
      refine z_aload_n hX dX3_check_4 rfl (i := 0) rfl ?_
      refine z_iload_n hX dX3_check_5 rfl (i := 2) rfl ?_
      obtain ⟨a7, f8, r9, m10, hw⟩ := hw
      refine z_invV hX hd r9 (ci := 4) rfl rfl m10 dX3_check_6 (hC 274 _ zm274 _ _ _ _ hw) q3065 q3067 qs110 zh7 q3068 q136 zn274 rfl (Nat.le_of_ble_eq_true rfl) (st := []) rfl (zcs8 (Nat.le_of_ble_eq_true rfl)) rfl (zkV (fun s5 hw => ?_)) (zout hX hR hTb)
      refine z_sub (ls' := [none, none, none]) (zsN (zsN (zsN (zs0)))) ?_
      exact hj2  _ hw
abbrev cX3_flaw : ByteArray := prog_28_method_117_code
def yX3_flaw : MethodName := ⟨RX3, "flaw", "(I)V"⟩
def dkwX3_flaw_0 : List UInt8 := [42, 180, 1, 152, 154, 0, 16, 42, 27, 181, 1, 152, 42, 42, 180, 1, 140, 181, 1, 161, 177]
abbrev dktX3_flaw_0 : List UInt8 := dkwX3_flaw_0 ++ []
theorem dksX3_flaw_0 : cX3_flaw.data.toList.drop 0 = dktX3_flaw_0 := by decide +kernel
theorem dX3_flaw_0 : decode cX3_flaw 0 = .ok (.aload_n 0, 1) := dk_42 (dk_at dksX3_flaw_0 0 rfl rfl)
theorem dX3_flaw_1 : decode cX3_flaw 1 = .ok (.getfield 408, 3) := dk_180 1 152 (dk_at dksX3_flaw_0 1 rfl rfl)
theorem dX3_flaw_4 : decode cX3_flaw 4 = .ok (.ifCond .ne 16, 3) := dk_154 0 16 (dk_at dksX3_flaw_0 4 rfl rfl)
theorem dX3_flaw_7 : decode cX3_flaw 7 = .ok (.aload_n 0, 1) := dk_42 (dk_at dksX3_flaw_0 7 rfl rfl)
theorem dX3_flaw_8 : decode cX3_flaw 8 = .ok (.iload_n 1, 1) := dk_27 (dk_at dksX3_flaw_0 8 rfl rfl)
theorem dX3_flaw_9 : decode cX3_flaw 9 = .ok (.putfield 408, 3) := dk_181 1 152 (dk_at dksX3_flaw_0 9 rfl rfl)
theorem dX3_flaw_12 : decode cX3_flaw 12 = .ok (.aload_n 0, 1) := dk_42 (dk_at dksX3_flaw_0 12 rfl rfl)
theorem dX3_flaw_13 : decode cX3_flaw 13 = .ok (.aload_n 0, 1) := dk_42 (dk_at dksX3_flaw_0 13 rfl rfl)
theorem dX3_flaw_14 : decode cX3_flaw 14 = .ok (.getfield 396, 3) := dk_180 1 140 (dk_at dksX3_flaw_0 14 rfl rfl)
theorem dX3_flaw_17 : decode cX3_flaw 17 = .ok (.putfield 417, 3) := dk_181 1 161 (dk_at dksX3_flaw_0 17 rfl rfl)
theorem dX3_flaw_20 : decode cX3_flaw 20 = .ok (.return_, 1) := dk_177 (dk_at dksX3_flaw_0 20 rfl rfl)
/-- PackingDuelModel.flaw(I)V -/
def zb274 (G : zPg) (C : zO) (args : List Value) (Q : zQ) (Y : zY) (σ : zS) : Prop := ∃ (a0 : Nat) (x1 : Int32), args = [.ref a0, .int x1] ∧ (zgI σ (some a0) 4 33 (fun v1 => zJ (fun  (s7 : zS) => Q none s7) (fun (j8 : zS → Prop) => ((¬ v1 = 0) → j8 σ) ∧ ((v1 = 0) → zput σ G.1 (some a0) 4 33 (.int x1) (fun s10 => zgI s10 (some a0) 4 31 (fun v18 => zput s10 G.1 (some a0) 4 34 (.int v18) (fun s24 => j8 s24)))))))
set_option maxHeartbeats 4000000 in
theorem wk274 {l : Launch} {g : zG} {d : Nat} {C : zO} (hG : zGk g) (hC : zSound l g d C) {args : List Value} {Q : zQ} {Y : zY} {σ : zS} (hw : zb274 (zpg g) C args Q Y σ) : zMet l g (d + 1) (⟨"PackingDuelModel", "flaw", "(I)V"⟩, Cond.code ⟨"PackingDuelModel", "flaw", "(I)V"⟩ prog_28_method_117_code 2 (Option.none : Option FieldType)) args σ Q Y := by
  obtain ⟨a0, x1, rfl, hw⟩ := hw
  refine zof hG (by decide +kernel) [false, false] ⟨rfl, rfl, trivial⟩ (Nat.le_of_ble_eq_true rfl) (ls := [some (va_rf (some a0)), some (.int x1)]) rfl ?_
  intro X hX hR hTb hd1 hd2 hl hg hnm
  subst hl
  subst hg
  have hd : zDep X d := ⟨hd1, hd2⟩
  refine z_aload_n hX dX3_flaw_0 rfl (i := 0) rfl ?_
  obtain ⟨a2, f3, v1, r4, m5, e6, hw⟩ := hw
  refine z_get hX zc4 (k := 33) dX3_flaw_1 (Nat.le_of_ble_eq_true rfl) (zlk hX q2502) r4 m5 e6 ?_
  refine zJ_w (P := fun (j : zS → Prop) => ∀  (s7 : zS), j  s7 → zW X s7 20 [none, none] []) hw (fun  s7 hw => ?_) (fun j8 hj8 hw => ?_)
  · exact z_return hX hR dX3_flaw_20 hw
  · refine z_if_ne hX dX3_flaw_4 (tgt := 20) rfl (fun c9 => ?_) (fun c9 => ?_)
    · have hw := hw.1 c9
      refine z_sub (ls' := [none, none]) (zsN (zsN (zs0))) ?_
      exact hj8  _ hw
    · have hw := hw.2 c9
      refine z_aload_n hX dX3_flaw_7 rfl (i := 0) rfl ?_
      refine z_iload_n hX dX3_flaw_8 rfl (i := 1) rfl ?_
      obtain ⟨a12, f13, r14, g15, m16, l17, hw⟩ := hw
      refine z_put hX zc4 (k := 33) dX3_flaw_9 (Nat.le_of_ble_eq_true rfl) (zlk hX q2502) rfl rfl rfl r14 g15 m16 l17 (z_nm (fun s10 e11 => ?_))
      have hw := hw s10 e11
      refine z_aload_n hX dX3_flaw_12 rfl (i := 0) rfl ?_
      refine z_aload_n hX dX3_flaw_13 rfl (i := 0) rfl ?_
      obtain ⟨a19, f20, v18, r21, m22, e23, hw⟩ := hw
      refine z_get hX zc4 (k := 31) dX3_flaw_14 (Nat.le_of_ble_eq_true rfl) (zlk hX q2500) r21 m22 e23 ?_
      obtain ⟨a26, f27, r28, g29, m30, l31, hw⟩ := hw
      refine z_put hX zc4 (k := 34) dX3_flaw_17 (Nat.le_of_ble_eq_true rfl) (zlk hX q2503) rfl rfl rfl r28 g29 m30 l31 (z_nm (fun s24 e25 => ?_))
      have hw := hw s24 e25
      refine z_sub (ls' := [none, none]) (zsN (zsN (zs0))) ?_
      exact hj8  _ hw
abbrev cX3_advance : ByteArray := prog_28_method_119_code
def yX3_advance : MethodName := ⟨RX3, "advance", "()V"⟩
def dkwX3_advance_0 : List UInt8 := [42, 180, 1, 152, 154, 0, 7, 42, 182, 1, 158, 177]
abbrev dktX3_advance_0 : List UInt8 := dkwX3_advance_0 ++ []
theorem dksX3_advance_0 : cX3_advance.data.toList.drop 0 = dktX3_advance_0 := by decide +kernel
theorem dX3_advance_0 : decode cX3_advance 0 = .ok (.aload_n 0, 1) := dk_42 (dk_at dksX3_advance_0 0 rfl rfl)
theorem dX3_advance_1 : decode cX3_advance 1 = .ok (.getfield 408, 3) := dk_180 1 152 (dk_at dksX3_advance_0 1 rfl rfl)
theorem dX3_advance_4 : decode cX3_advance 4 = .ok (.ifCond .ne 7, 3) := dk_154 0 7 (dk_at dksX3_advance_0 4 rfl rfl)
theorem dX3_advance_7 : decode cX3_advance 7 = .ok (.aload_n 0, 1) := dk_42 (dk_at dksX3_advance_0 7 rfl rfl)
theorem dX3_advance_8 : decode cX3_advance 8 = .ok (.invokevirtual 414, 3) := dk_182 1 158 (dk_at dksX3_advance_0 8 rfl rfl)
theorem dX3_advance_11 : decode cX3_advance 11 = .ok (.return_, 1) := dk_177 (dk_at dksX3_advance_0 11 rfl rfl)
/-- PackingDuelModel.advance()V -/
def zb275 (G : zPg) (C : zO) (args : List Value) (Q : zQ) (Y : zY) (σ : zS) : Prop := ∃ (a0 : Nat), args = [.ref a0] ∧ (zgI σ (some a0) 4 33 (fun v1 => zJ (fun  (s7 : zS) => Q none s7) (fun (j8 : zS → Prop) => ((¬ v1 = 0) → j8 σ) ∧ ((v1 = 0) → zrc σ (some a0) 4 (fun a13 => zcl C 266 [.ref a13] Y σ (zqV (fun s11 => j8 s11)))))))
set_option maxHeartbeats 4000000 in
theorem wk275 {l : Launch} {g : zG} {d : Nat} {C : zO} (hG : zGk g) (hC : zSound l g d C) {args : List Value} {Q : zQ} {Y : zY} {σ : zS} (hw : zb275 (zpg g) C args Q Y σ) : zMet l g (d + 1) (⟨"PackingDuelModel", "advance", "()V"⟩, Cond.code ⟨"PackingDuelModel", "advance", "()V"⟩ prog_28_method_119_code 1 (Option.none : Option FieldType)) args σ Q Y := by
  obtain ⟨a0, rfl, hw⟩ := hw
  refine zof hG (by decide +kernel) [false] ⟨rfl, trivial⟩ (Nat.le_of_ble_eq_true rfl) (ls := [some (va_rf (some a0))]) rfl ?_
  intro X hX hR hTb hd1 hd2 hl hg hnm
  subst hl
  subst hg
  have hd : zDep X d := ⟨hd1, hd2⟩
  refine z_aload_n hX dX3_advance_0 rfl (i := 0) rfl ?_
  obtain ⟨a2, f3, v1, r4, m5, e6, hw⟩ := hw
  refine z_get hX zc4 (k := 33) dX3_advance_1 (Nat.le_of_ble_eq_true rfl) (zlk hX q2502) r4 m5 e6 ?_
  refine zJ_w (P := fun (j : zS → Prop) => ∀  (s7 : zS), j  s7 → zW X s7 11 [none] []) hw (fun  s7 hw => ?_) (fun j8 hj8 hw => ?_)
  · exact z_return hX hR dX3_advance_11 hw
  · refine z_if_ne hX dX3_advance_4 (tgt := 11) rfl (fun c9 => ?_) (fun c9 => ?_)
    · have hw := hw.1 c9
      refine z_sub (ls' := [none]) (zsN (zs0)) ?_
      exact hj8  _ hw
    · have hw := hw.2 c9
      refine z_aload_n hX dX3_advance_7 rfl (i := 0) rfl ?_
      obtain ⟨a13, f14, r15, m16, hw⟩ := hw
      refine z_invV hX hd r15 (ci := 4) rfl rfl m16 dX3_advance_8 (hC 266 _ zm266 _ _ _ _ hw) q3030 q3032 qs102 zh7 q3033 q136 zn266 rfl (Nat.le_of_ble_eq_true rfl) (st := []) rfl (zcs8 (Nat.le_of_ble_eq_true rfl)) rfl (zkV (fun s11 hw => ?_)) (zout hX hR hTb)
      refine z_sub (ls' := [none]) (zsN (zs0)) ?_
      exact hj8  _ hw
abbrev cX3_readNumber : ByteArray := prog_28_method_126_code
def yX3_readNumber : MethodName := ⟨RX3, "readNumber", "(II)I"⟩
def dkwX3_readNumber_3 : List UInt8 := [167, 0, 4, 27, 172]
abbrev dktX3_readNumber_3 : List UInt8 := dkwX3_readNumber_3 ++ []
def dkwX3_readNumber_2 : List UInt8 := [153, 0, 7, 4, 167, 0, 4, 3, 5, 182, 1, 178, 42, 182, 1, 181, 42, 180, 1, 152, 154, 0, 7, 29]
abbrev dktX3_readNumber_2 : List UInt8 := dkwX3_readNumber_2 ++ dktX3_readNumber_3
def dkwX3_readNumber_1 : List UInt8 := [182, 1, 178, 42, 182, 1, 196, 62, 42, 42, 180, 1, 152, 154, 0, 12, 29, 27, 28, 184, 0, 109]
abbrev dktX3_readNumber_1 : List UInt8 := dkwX3_readNumber_1 ++ dktX3_readNumber_2
def dkwX3_readNumber_0 : List UInt8 := [42, 42, 180, 1, 152, 154, 0, 11, 42, 180, 1, 143, 5, 160, 0, 7, 4, 167, 0, 4, 3, 4]
abbrev dktX3_readNumber_0 : List UInt8 := dkwX3_readNumber_0 ++ dktX3_readNumber_1
theorem dksX3_readNumber_0 : cX3_readNumber.data.toList.drop 0 = dktX3_readNumber_0 := by decide +kernel
theorem dksX3_readNumber_1 : cX3_readNumber.data.toList.drop 22 = dktX3_readNumber_1 := dk_seg dksX3_readNumber_0 22 rfl rfl
theorem dksX3_readNumber_2 : cX3_readNumber.data.toList.drop 44 = dktX3_readNumber_2 := dk_seg dksX3_readNumber_1 22 rfl rfl
theorem dksX3_readNumber_3 : cX3_readNumber.data.toList.drop 68 = dktX3_readNumber_3 := dk_seg dksX3_readNumber_2 24 rfl rfl
theorem dX3_readNumber_0 : decode cX3_readNumber 0 = .ok (.aload_n 0, 1) := dk_42 (dk_at dksX3_readNumber_0 0 rfl rfl)
theorem dX3_readNumber_1 : decode cX3_readNumber 1 = .ok (.aload_n 0, 1) := dk_42 (dk_at dksX3_readNumber_0 1 rfl rfl)
theorem dX3_readNumber_2 : decode cX3_readNumber 2 = .ok (.getfield 408, 3) := dk_180 1 152 (dk_at dksX3_readNumber_0 2 rfl rfl)
theorem dX3_readNumber_5 : decode cX3_readNumber 5 = .ok (.ifCond .ne 11, 3) := dk_154 0 11 (dk_at dksX3_readNumber_0 5 rfl rfl)
theorem dX3_readNumber_8 : decode cX3_readNumber 8 = .ok (.aload_n 0, 1) := dk_42 (dk_at dksX3_readNumber_0 8 rfl rfl)
theorem dX3_readNumber_9 : decode cX3_readNumber 9 = .ok (.getfield 399, 3) := dk_180 1 143 (dk_at dksX3_readNumber_0 9 rfl rfl)
theorem dX3_readNumber_12 : decode cX3_readNumber 12 = .ok (.iconst 2, 1) := dk_5 (dk_at dksX3_readNumber_0 12 rfl rfl)
theorem dX3_readNumber_13 : decode cX3_readNumber 13 = .ok (.if_icmp .ne 7, 3) := dk_160 0 7 (dk_at dksX3_readNumber_0 13 rfl rfl)
theorem dX3_readNumber_16 : decode cX3_readNumber 16 = .ok (.iconst 1, 1) := dk_4 (dk_at dksX3_readNumber_0 16 rfl rfl)
theorem dX3_readNumber_17 : decode cX3_readNumber 17 = .ok (.goto 4, 3) := dk_167 0 4 (dk_at dksX3_readNumber_0 17 rfl rfl)
theorem dX3_readNumber_20 : decode cX3_readNumber 20 = .ok (.iconst 0, 1) := dk_3 (dk_at dksX3_readNumber_0 20 rfl rfl)
theorem dX3_readNumber_21 : decode cX3_readNumber 21 = .ok (.iconst 1, 1) := dk_4 (dk_at dksX3_readNumber_0 21 rfl rfl)
theorem dX3_readNumber_22 : decode cX3_readNumber 22 = .ok (.invokevirtual 434, 3) := dk_182 1 178 (dk_at dksX3_readNumber_1 0 rfl rfl)
theorem dX3_readNumber_25 : decode cX3_readNumber 25 = .ok (.aload_n 0, 1) := dk_42 (dk_at dksX3_readNumber_1 3 rfl rfl)
theorem dX3_readNumber_26 : decode cX3_readNumber 26 = .ok (.invokevirtual 452, 3) := dk_182 1 196 (dk_at dksX3_readNumber_1 4 rfl rfl)
theorem dX3_readNumber_29 : decode cX3_readNumber 29 = .ok (.istore_n 3, 1) := dk_62 (dk_at dksX3_readNumber_1 7 rfl rfl)
theorem dX3_readNumber_30 : decode cX3_readNumber 30 = .ok (.aload_n 0, 1) := dk_42 (dk_at dksX3_readNumber_1 8 rfl rfl)
theorem dX3_readNumber_31 : decode cX3_readNumber 31 = .ok (.aload_n 0, 1) := dk_42 (dk_at dksX3_readNumber_1 9 rfl rfl)
theorem dX3_readNumber_32 : decode cX3_readNumber 32 = .ok (.getfield 408, 3) := dk_180 1 152 (dk_at dksX3_readNumber_1 10 rfl rfl)
theorem dX3_readNumber_35 : decode cX3_readNumber 35 = .ok (.ifCond .ne 12, 3) := dk_154 0 12 (dk_at dksX3_readNumber_1 13 rfl rfl)
theorem dX3_readNumber_38 : decode cX3_readNumber 38 = .ok (.iload_n 3, 1) := dk_29 (dk_at dksX3_readNumber_1 16 rfl rfl)
theorem dX3_readNumber_39 : decode cX3_readNumber 39 = .ok (.iload_n 1, 1) := dk_27 (dk_at dksX3_readNumber_1 17 rfl rfl)
theorem dX3_readNumber_40 : decode cX3_readNumber 40 = .ok (.iload_n 2, 1) := dk_28 (dk_at dksX3_readNumber_1 18 rfl rfl)
theorem dX3_readNumber_41 : decode cX3_readNumber 41 = .ok (.invokestatic 109, 3) := dk_184 0 109 (dk_at dksX3_readNumber_1 19 rfl rfl)
theorem dX3_readNumber_44 : decode cX3_readNumber 44 = .ok (.ifCond .eq 7, 3) := dk_153 0 7 (dk_at dksX3_readNumber_2 0 rfl rfl)
theorem dX3_readNumber_47 : decode cX3_readNumber 47 = .ok (.iconst 1, 1) := dk_4 (dk_at dksX3_readNumber_2 3 rfl rfl)
theorem dX3_readNumber_48 : decode cX3_readNumber 48 = .ok (.goto 4, 3) := dk_167 0 4 (dk_at dksX3_readNumber_2 4 rfl rfl)
theorem dX3_readNumber_51 : decode cX3_readNumber 51 = .ok (.iconst 0, 1) := dk_3 (dk_at dksX3_readNumber_2 7 rfl rfl)
theorem dX3_readNumber_52 : decode cX3_readNumber 52 = .ok (.iconst 2, 1) := dk_5 (dk_at dksX3_readNumber_2 8 rfl rfl)
theorem dX3_readNumber_53 : decode cX3_readNumber 53 = .ok (.invokevirtual 434, 3) := dk_182 1 178 (dk_at dksX3_readNumber_2 9 rfl rfl)
theorem dX3_readNumber_56 : decode cX3_readNumber 56 = .ok (.aload_n 0, 1) := dk_42 (dk_at dksX3_readNumber_2 12 rfl rfl)
theorem dX3_readNumber_57 : decode cX3_readNumber 57 = .ok (.invokevirtual 437, 3) := dk_182 1 181 (dk_at dksX3_readNumber_2 13 rfl rfl)
theorem dX3_readNumber_60 : decode cX3_readNumber 60 = .ok (.aload_n 0, 1) := dk_42 (dk_at dksX3_readNumber_2 16 rfl rfl)
theorem dX3_readNumber_61 : decode cX3_readNumber 61 = .ok (.getfield 408, 3) := dk_180 1 152 (dk_at dksX3_readNumber_2 17 rfl rfl)
theorem dX3_readNumber_64 : decode cX3_readNumber 64 = .ok (.ifCond .ne 7, 3) := dk_154 0 7 (dk_at dksX3_readNumber_2 20 rfl rfl)
theorem dX3_readNumber_67 : decode cX3_readNumber 67 = .ok (.iload_n 3, 1) := dk_29 (dk_at dksX3_readNumber_2 23 rfl rfl)
theorem dX3_readNumber_68 : decode cX3_readNumber 68 = .ok (.goto 4, 3) := dk_167 0 4 (dk_at dksX3_readNumber_3 0 rfl rfl)
theorem dX3_readNumber_71 : decode cX3_readNumber 71 = .ok (.iload_n 1, 1) := dk_27 (dk_at dksX3_readNumber_3 3 rfl rfl)
theorem dX3_readNumber_72 : decode cX3_readNumber 72 = .ok (.ireturn, 1) := dk_172 (dk_at dksX3_readNumber_3 4 rfl rfl)
/-- PackingDuelModel.readNumber(II)I -/
def zb276 (G : zPg) (C : zO) (args : List Value) (Q : zQ) (Y : zY) (σ : zS) : Prop := ∃ (a0 : Nat) (x1 : Int32) (x2 : Int32), args = [.ref a0, .int x1, .int x2] ∧ (zgI σ (some a0) 4 33 (fun v1 => zJ (fun (p7 : Int32) (s8 : zS) => zrc s8 (some a0) 4 (fun a13 => zcl C 273 [.ref a13, .int p7, .int (1 : Int32)] Y s8 (zqV (fun s11 => zrc s11 (some a0) 4 (fun a20 => zcl C 277 [.ref a20] Y s11 (zqI (fun v17 s18 => zgI s18 (some a0) 4 33 (fun v24 => zJ (fun (p30 : Int32) (s31 : zS) => zrc s31 (some a0) 4 (fun a36 => zcl C 273 [.ref a36, .int p30, .int (2 : Int32)] Y s31 (zqV (fun s34 => zrc s34 (some a0) 4 (fun a43 => zcl C 275 [.ref a43] Y s34 (zqV (fun s41 => zgI s41 (some a0) 4 33 (fun v47 => zJ (fun (p53 : Int32) (s54 : zS) => Q (some (.int p53)) s54) (fun (j55 : Int32 → zS → Prop) => ((¬ v47 = 0) → j55 x1 s41) ∧ ((v47 = 0) → j55 v17 s41)))))))))) (fun (j32 : Int32 → zS → Prop) => zJ (fun  (s57 : zS) => j32 (1 : Int32) s57) (fun (j58 : zS → Prop) => ((¬ v24 = 0) → j58 s18) ∧ ((v24 = 0) → zcl C 166 [.int v17, .int x1, .int x2] Y s18 (zqI (fun v60 s61 => ((v60 = 0) → j32 (0 : Int32) s61) ∧ ((¬ v60 = 0) → j58 s61)))))))))))))) (fun (j9 : Int32 → zS → Prop) => zJ (fun  (s64 : zS) => j9 (1 : Int32) s64) (fun (j65 : zS → Prop) => ((¬ v1 = 0) → j65 σ) ∧ ((v1 = 0) → zgI σ (some a0) 4 32 (fun v67 => ((¬ v67 = (2 : Int32)) → j9 (0 : Int32) σ) ∧ ((v67 = (2 : Int32)) → j65 σ)))))))
set_option maxHeartbeats 4000000 in
theorem wk276 {l : Launch} {g : zG} {d : Nat} {C : zO} (hG : zGk g) (hC : zSound l g d C) {args : List Value} {Q : zQ} {Y : zY} {σ : zS} (hw : zb276 (zpg g) C args Q Y σ) : zMet l g (d + 1) (⟨"PackingDuelModel", "readNumber", "(II)I"⟩, Cond.code ⟨"PackingDuelModel", "readNumber", "(II)I"⟩ prog_28_method_126_code 4 (Option.some FieldType.int)) args σ Q Y := by
  obtain ⟨a0, x1, x2, rfl, hw⟩ := hw
  refine zof hG (by decide +kernel) [false, false, false] ⟨rfl, rfl, rfl, trivial⟩ (Nat.le_of_ble_eq_true rfl) (ls := [some (va_rf (some a0)), some (.int x1), some (.int x2), none]) rfl ?_
  intro X hX hR hTb hd1 hd2 hl hg hnm
  subst hl
  subst hg
  have hd : zDep X d := ⟨hd1, hd2⟩
  refine z_aload_n hX dX3_readNumber_0 rfl (i := 0) rfl ?_
  refine z_aload_n hX dX3_readNumber_1 rfl (i := 0) rfl ?_
  obtain ⟨a2, f3, v1, r4, m5, e6, hw⟩ := hw
  refine z_get hX zc4 (k := 33) dX3_readNumber_2 (Nat.le_of_ble_eq_true rfl) (zlk hX q2502) r4 m5 e6 ?_
  refine zJ_w (P := fun (j : Int32 → zS → Prop) => ∀ (p7 : Int32) (s8 : zS), j p7 s8 → zW X s8 21 [some (va_rf (some a0)), some (.int x1), some (.int x2), none] [.int p7, va_rf (some a0)]) hw (fun p7 s8 hw => ?_) (fun j9 hj9 hw => ?_)
  · refine z_iconst hX (v := (1 : Int32)) dX3_readNumber_21 (by decide) ?_
    obtain ⟨a13, f14, r15, m16, hw⟩ := hw
    refine z_invV hX hd r15 (ci := 4) rfl rfl m16 dX3_readNumber_22 (hC 273 _ zm273 _ _ _ _ hw) q3061 q3063 qs109 zh7 q3064 q136 zn273 rfl (Nat.le_of_ble_eq_true rfl) (st := []) rfl (zcs8 (Nat.le_of_ble_eq_true rfl)) rfl (zkV (fun s11 hw => ?_)) (zout hX hR hTb)
    refine z_aload_n hX dX3_readNumber_25 rfl (i := 0) rfl ?_
    obtain ⟨a20, f21, r22, m23, hw⟩ := hw
    refine z_invV hX hd r22 (ci := 4) rfl rfl m23 dX3_readNumber_26 (hC 277 _ zm277 _ _ _ _ hw) q3077 q3079 qs113 zh7 q3080 q136 zn277 rfl (Nat.le_of_ble_eq_true rfl) (st := []) rfl (zcs8 (Nat.le_of_ble_eq_true rfl)) rfl (zkI (fun v17 s18 hw => ?_)) (zout hX hR hTb)
    refine z_istore_n hX dX3_readNumber_29 rfl (i := 3) (Nat.le_of_ble_eq_true rfl) rfl (ls2 := [some (va_rf (some a0)), some (.int x1), some (.int x2), some (.int v17)]) rfl ?_
    refine z_aload_n hX dX3_readNumber_30 rfl (i := 0) rfl ?_
    refine z_aload_n hX dX3_readNumber_31 rfl (i := 0) rfl ?_
    obtain ⟨a25, f26, v24, r27, m28, e29, hw⟩ := hw
    refine z_get hX zc4 (k := 33) dX3_readNumber_32 (Nat.le_of_ble_eq_true rfl) (zlk hX q2502) r27 m28 e29 ?_
    refine zJ_w (P := fun (j : Int32 → zS → Prop) => ∀ (p30 : Int32) (s31 : zS), j p30 s31 → zW X s31 52 [some (va_rf (some a0)), some (.int x1), none, some (.int v17)] [.int p30, va_rf (some a0)]) hw (fun p30 s31 hw => ?_) (fun j32 hj32 hw => ?_)
    · refine z_iconst hX (v := (2 : Int32)) dX3_readNumber_52 (by decide) ?_
      obtain ⟨a36, f37, r38, m39, hw⟩ := hw
      refine z_invV hX hd r38 (ci := 4) rfl rfl m39 dX3_readNumber_53 (hC 273 _ zm273 _ _ _ _ hw) q3061 q3063 qs109 zh7 q3064 q136 zn273 rfl (Nat.le_of_ble_eq_true rfl) (st := []) rfl (zcs8 (Nat.le_of_ble_eq_true rfl)) rfl (zkV (fun s34 hw => ?_)) (zout hX hR hTb)
      refine z_aload_n hX dX3_readNumber_56 rfl (i := 0) rfl ?_
      obtain ⟨a43, f44, r45, m46, hw⟩ := hw
      refine z_invV hX hd r45 (ci := 4) rfl rfl m46 dX3_readNumber_57 (hC 275 _ zm275 _ _ _ _ hw) q3069 q3071 qs111 zh7 q3072 q136 zn275 rfl (Nat.le_of_ble_eq_true rfl) (st := []) rfl (zcs8 (Nat.le_of_ble_eq_true rfl)) rfl (zkV (fun s41 hw => ?_)) (zout hX hR hTb)
      refine z_aload_n hX dX3_readNumber_60 rfl (i := 0) rfl ?_
      obtain ⟨a48, f49, v47, r50, m51, e52, hw⟩ := hw
      refine z_get hX zc4 (k := 33) dX3_readNumber_61 (Nat.le_of_ble_eq_true rfl) (zlk hX q2502) r50 m51 e52 ?_
      refine zJ_w (P := fun (j : Int32 → zS → Prop) => ∀ (p53 : Int32) (s54 : zS), j p53 s54 → zW X s54 72 [none, none, none, none] [.int p53]) hw (fun p53 s54 hw => ?_) (fun j55 hj55 hw => ?_)
      · exact z_ireturn hX hR dX3_readNumber_72 rfl hw
      · refine z_if_ne hX dX3_readNumber_64 (tgt := 71) rfl (fun c56 => ?_) (fun c56 => ?_)
        · have hw := hw.1 c56
          refine z_iload_n hX dX3_readNumber_71 rfl (i := 1) rfl ?_
          refine z_sub (ls' := [none, none, none, none]) (zsN (zsN (zsN (zsN (zs0))))) ?_
          exact hj55 _ _ hw
        · have hw := hw.2 c56
          refine z_iload_n hX dX3_readNumber_67 rfl (i := 3) rfl ?_
          refine z_goto hX dX3_readNumber_68 (tgt := 72) rfl ?_
          refine z_sub (ls' := [none, none, none, none]) (zsN (zsN (zsN (zsN (zs0))))) ?_
          exact hj55 _ _ hw
    · refine zJ_w (P := fun (j : zS → Prop) => ∀  (s57 : zS), j  s57 → zW X s57 47 [some (va_rf (some a0)), some (.int x1), none, some (.int v17)] [va_rf (some a0)]) hw (fun  s57 hw => ?_) (fun j58 hj58 hw => ?_)
      · refine z_iconst hX (v := (1 : Int32)) dX3_readNumber_47 (by decide) ?_
        refine z_goto hX dX3_readNumber_48 (tgt := 52) rfl ?_
        exact hj32 _ _ hw
      · refine z_if_ne hX dX3_readNumber_35 (tgt := 47) rfl (fun c59 => ?_) (fun c59 => ?_)
        · have hw := hw.1 c59
          refine z_sub (ls' := [some (va_rf (some a0)), some (.int x1), none, some (.int v17)]) (zsS (zsS (zsN (zsS (zs0))))) ?_
          exact hj58  _ hw
        · have hw := hw.2 c59
          refine z_iload_n hX dX3_readNumber_38 rfl (i := 3) rfl ?_
          refine z_iload_n hX dX3_readNumber_39 rfl (i := 1) rfl ?_
          refine z_iload_n hX dX3_readNumber_40 rfl (i := 2) rfl ?_
          refine z_invS hX hd dX3_readNumber_41 (hC 166 _ zm166 _ _ _ _ hw) q2632 q2633 zh7 q2634 q136 zn166 rfl (Nat.le_of_ble_eq_true rfl) (st := [va_rf (some a0)]) rfl (zcs8 (Nat.le_of_ble_eq_true rfl)) rfl (zkI (fun v60 s61 hw => ?_)) (zout hX hR hTb)
          refine z_if_eq hX dX3_readNumber_44 (tgt := 51) rfl (fun c63 => ?_) (fun c63 => ?_)
          · have hw := hw.1 c63
            refine z_iconst hX (v := (0 : Int32)) dX3_readNumber_51 (by decide) ?_
            refine z_sub (ls' := [some (va_rf (some a0)), some (.int x1), none, some (.int v17)]) (zsS (zsS (zsN (zsS (zs0))))) ?_
            exact hj32 _ _ hw
          · have hw := hw.2 c63
            refine z_sub (ls' := [some (va_rf (some a0)), some (.int x1), none, some (.int v17)]) (zsS (zsS (zsN (zsS (zs0))))) ?_
            exact hj58  _ hw
  · refine zJ_w (P := fun (j : zS → Prop) => ∀  (s64 : zS), j  s64 → zW X s64 16 [some (va_rf (some a0)), some (.int x1), some (.int x2), none] [va_rf (some a0)]) hw (fun  s64 hw => ?_) (fun j65 hj65 hw => ?_)
    · refine z_iconst hX (v := (1 : Int32)) dX3_readNumber_16 (by decide) ?_
      refine z_goto hX dX3_readNumber_17 (tgt := 21) rfl ?_
      exact hj9 _ _ hw
    · refine z_if_ne hX dX3_readNumber_5 (tgt := 16) rfl (fun c66 => ?_) (fun c66 => ?_)
      · have hw := hw.1 c66
        exact hj65  _ hw
      · have hw := hw.2 c66
        refine z_aload_n hX dX3_readNumber_8 rfl (i := 0) rfl ?_
        obtain ⟨a68, f69, v67, r70, m71, e72, hw⟩ := hw
        refine z_get hX zc4 (k := 32) dX3_readNumber_9 (Nat.le_of_ble_eq_true rfl) (zlk hX q2501) r70 m71 e72 ?_
        refine z_iconst hX (v := (2 : Int32)) dX3_readNumber_12 (by decide) ?_
        refine z_icmp_ne hX dX3_readNumber_13 (tgt := 20) rfl (fun c73 => ?_) (fun c73 => ?_)
        · have hw := hw.1 c73
          refine z_iconst hX (v := (0 : Int32)) dX3_readNumber_20 (by decide) ?_
          exact hj9 _ _ hw
        · have hw := hw.2 c73
          exact hj65  _ hw
abbrev cX3_value : ByteArray := prog_28_method_125_code
def yX3_value : MethodName := ⟨RX3, "value", "()I"⟩
def dkwX3_value_2 : List UInt8 := [136, 60, 132, 2, 1, 167, 255, 211, 27, 172]
abbrev dktX3_value_2 : List UInt8 := dkwX3_value_2 ++ []
def dkwX3_value_1 : List UInt8 := [20, 1, 187, 20, 1, 189, 27, 133, 105, 42, 180, 0, 62, 28, 46, 133, 97, 20, 1, 191, 101, 184, 1, 193]
abbrev dktX3_value_1 : List UInt8 := dkwX3_value_1 ++ dktX3_value_2
def dkwX3_value_0 : List UInt8 := [3, 60, 42, 180, 1, 140, 61, 28, 42, 180, 1, 137, 162, 0, 43, 42, 180, 1, 143, 5, 160, 0, 35]
abbrev dktX3_value_0 : List UInt8 := dkwX3_value_0 ++ dktX3_value_1
theorem dksX3_value_0 : cX3_value.data.toList.drop 0 = dktX3_value_0 := by decide +kernel
theorem dksX3_value_1 : cX3_value.data.toList.drop 23 = dktX3_value_1 := dk_seg dksX3_value_0 23 rfl rfl
theorem dksX3_value_2 : cX3_value.data.toList.drop 47 = dktX3_value_2 := dk_seg dksX3_value_1 24 rfl rfl
theorem dX3_value_0 : decode cX3_value 0 = .ok (.iconst 0, 1) := dk_3 (dk_at dksX3_value_0 0 rfl rfl)
theorem dX3_value_1 : decode cX3_value 1 = .ok (.istore_n 1, 1) := dk_60 (dk_at dksX3_value_0 1 rfl rfl)
theorem dX3_value_2 : decode cX3_value 2 = .ok (.aload_n 0, 1) := dk_42 (dk_at dksX3_value_0 2 rfl rfl)
theorem dX3_value_3 : decode cX3_value 3 = .ok (.getfield 396, 3) := dk_180 1 140 (dk_at dksX3_value_0 3 rfl rfl)
theorem dX3_value_6 : decode cX3_value 6 = .ok (.istore_n 2, 1) := dk_61 (dk_at dksX3_value_0 6 rfl rfl)
theorem dX3_value_7 : decode cX3_value 7 = .ok (.iload_n 2, 1) := dk_28 (dk_at dksX3_value_0 7 rfl rfl)
theorem dX3_value_8 : decode cX3_value 8 = .ok (.aload_n 0, 1) := dk_42 (dk_at dksX3_value_0 8 rfl rfl)
theorem dX3_value_9 : decode cX3_value 9 = .ok (.getfield 393, 3) := dk_180 1 137 (dk_at dksX3_value_0 9 rfl rfl)
theorem dX3_value_12 : decode cX3_value 12 = .ok (.if_icmp .ge 43, 3) := dk_162 0 43 (dk_at dksX3_value_0 12 rfl rfl)
theorem dX3_value_15 : decode cX3_value 15 = .ok (.aload_n 0, 1) := dk_42 (dk_at dksX3_value_0 15 rfl rfl)
theorem dX3_value_16 : decode cX3_value 16 = .ok (.getfield 399, 3) := dk_180 1 143 (dk_at dksX3_value_0 16 rfl rfl)
theorem dX3_value_19 : decode cX3_value 19 = .ok (.iconst 2, 1) := dk_5 (dk_at dksX3_value_0 19 rfl rfl)
theorem dX3_value_20 : decode cX3_value 20 = .ok (.if_icmp .ne 35, 3) := dk_160 0 35 (dk_at dksX3_value_0 20 rfl rfl)
theorem dX3_value_23 : decode cX3_value 23 = .ok (.ldc2_w 443, 3) := dk_20 1 187 (dk_at dksX3_value_1 0 rfl rfl)
theorem dX3_value_26 : decode cX3_value 26 = .ok (.ldc2_w 445, 3) := dk_20 1 189 (dk_at dksX3_value_1 3 rfl rfl)
theorem dX3_value_29 : decode cX3_value 29 = .ok (.iload_n 1, 1) := dk_27 (dk_at dksX3_value_1 6 rfl rfl)
theorem dX3_value_30 : decode cX3_value 30 = .ok (.i2l, 1) := dk_133 (dk_at dksX3_value_1 7 rfl rfl)
theorem dX3_value_31 : decode cX3_value 31 = .ok (.lmul, 1) := dk_105 (dk_at dksX3_value_1 8 rfl rfl)
theorem dX3_value_32 : decode cX3_value 32 = .ok (.aload_n 0, 1) := dk_42 (dk_at dksX3_value_1 9 rfl rfl)
theorem dX3_value_33 : decode cX3_value 33 = .ok (.getfield 62, 3) := dk_180 0 62 (dk_at dksX3_value_1 10 rfl rfl)
theorem dX3_value_36 : decode cX3_value 36 = .ok (.iload_n 2, 1) := dk_28 (dk_at dksX3_value_1 13 rfl rfl)
theorem dX3_value_37 : decode cX3_value 37 = .ok (.iaload, 1) := dk_46 (dk_at dksX3_value_1 14 rfl rfl)
theorem dX3_value_38 : decode cX3_value 38 = .ok (.i2l, 1) := dk_133 (dk_at dksX3_value_1 15 rfl rfl)
theorem dX3_value_39 : decode cX3_value 39 = .ok (.ladd, 1) := dk_97 (dk_at dksX3_value_1 16 rfl rfl)
theorem dX3_value_40 : decode cX3_value 40 = .ok (.ldc2_w 447, 3) := dk_20 1 191 (dk_at dksX3_value_1 17 rfl rfl)
theorem dX3_value_43 : decode cX3_value 43 = .ok (.lsub, 1) := dk_101 (dk_at dksX3_value_1 20 rfl rfl)
theorem dX3_value_44 : decode cX3_value 44 = .ok (.invokestatic 449, 3) := dk_184 1 193 (dk_at dksX3_value_1 21 rfl rfl)
theorem dX3_value_47 : decode cX3_value 47 = .ok (.l2i, 1) := dk_136 (dk_at dksX3_value_2 0 rfl rfl)
theorem dX3_value_48 : decode cX3_value 48 = .ok (.istore_n 1, 1) := dk_60 (dk_at dksX3_value_2 1 rfl rfl)
theorem dX3_value_49 : decode cX3_value 49 = .ok (.iinc 2 1, 3) := dk_132 2 1 (dk_at dksX3_value_2 2 rfl rfl)
theorem dX3_value_52 : decode cX3_value 52 = .ok (.goto (-45), 3) := dk_167 255 211 (dk_at dksX3_value_2 5 rfl rfl)
theorem dX3_value_55 : decode cX3_value 55 = .ok (.iload_n 1, 1) := dk_27 (dk_at dksX3_value_2 8 rfl rfl)
theorem dX3_value_56 : decode cX3_value 56 = .ok (.ireturn, 1) := dk_172 (dk_at dksX3_value_2 9 rfl rfl)
/-- PackingDuelModel.value()I -/
def zb277 (G : zPg) (C : zO) (args : List Value) (Q : zQ) (Y : zY) (σ : zS) : Prop := ∃ (a0 : Nat), args = [.ref a0] ∧ (zgI σ (some a0) 4 31 (fun v1 => ∃ n, zIt (fun _ _ _ => False) (fun rec10 (p7 : Int32) (p8 : Int32) (s9 : zS) => zgI s9 (some a0) 4 30 (fun v11 => zJ (fun  (s17 : zS) => Q (some (.int p7)) s17) (fun (j18 : zS → Prop) => ((v11 ≤ p8) → j18 s9) ∧ ((¬ v11 ≤ p8) → zgI s9 (some a0) 4 32 (fun v20 => ((¬ v20 = (2 : Int32)) → j18 s9) ∧ ((v20 = (2 : Int32)) → zgR s9 (some a0) 4 27 (fun v27 => zaI s9 0 v27 p8 (fun v39 => (∀ v41 : Int64, v41 = ((((10 : Int64) * p7.toInt64) + v39.toInt64) - (48 : Int64)) → zcl C 299 [.long (2000000000 : Int64), .long v41] Y s9 (zqL (fun v43 s44 => (∀ v46 : Int32, v46 = p8 + (1 : Int32) → rec10 v43.toInt32 v46 s44)))))))))))) n (0 : Int32) v1 σ))
set_option maxHeartbeats 4000000 in
theorem wk277 {l : Launch} {g : zG} {d : Nat} {C : zO} (hG : zGk g) (hC : zSound l g d C) {args : List Value} {Q : zQ} {Y : zY} {σ : zS} (hw : zb277 (zpg g) C args Q Y σ) : zMet l g (d + 1) (⟨"PackingDuelModel", "value", "()I"⟩, Cond.code ⟨"PackingDuelModel", "value", "()I"⟩ prog_28_method_125_code 3 (Option.some FieldType.int)) args σ Q Y := by
  obtain ⟨a0, rfl, hw⟩ := hw
  refine zof hG (by decide +kernel) [false] ⟨rfl, trivial⟩ (Nat.le_of_ble_eq_true rfl) (ls := [some (va_rf (some a0)), none, none]) rfl ?_
  intro X hX hR hTb hd1 hd2 hl hg hnm
  subst hl
  subst hg
  have hd : zDep X d := ⟨hd1, hd2⟩
  refine z_iconst hX (v := (0 : Int32)) dX3_value_0 (by decide) ?_
  refine z_istore_n hX dX3_value_1 rfl (i := 1) (Nat.le_of_ble_eq_true rfl) (zc_rf _) (ls2 := [some (va_rf (some a0)), some (.int (0 : Int32)), none]) rfl ?_
  refine z_aload_n hX dX3_value_2 rfl (i := 0) rfl ?_
  obtain ⟨a2, f3, v1, r4, m5, e6, hw⟩ := hw
  refine z_get hX zc4 (k := 31) dX3_value_3 (Nat.le_of_ble_eq_true rfl) (zlk hX q2500) r4 m5 e6 ?_
  refine z_istore_n hX dX3_value_6 rfl (i := 2) (Nat.le_of_ble_eq_true rfl) rfl (ls2 := [some (va_rf (some a0)), some (.int (0 : Int32)), some (.int v1)]) rfl ?_
  obtain ⟨n48, hw⟩ := hw
  refine zIt_w (P := fun (j : Int32 → Int32 → zS → Prop) => ∀ (p7 : Int32) (p8 : Int32) (s9 : zS), j p7 p8 s9 → zW X s9 7 [some (va_rf (some a0)), some (.int p7), some (.int p8)] []) (fun _ _ _ h => h.elim) (fun rec10 hrec10 p7 p8 s9 hw => ?_) n48 _ _ _ hw
  refine z_iload_n hX dX3_value_7 rfl (i := 2) rfl ?_
  refine z_aload_n hX dX3_value_8 rfl (i := 0) rfl ?_
  obtain ⟨a12, f13, v11, r14, m15, e16, hw⟩ := hw
  refine z_get hX zc4 (k := 30) dX3_value_9 (Nat.le_of_ble_eq_true rfl) (zlk hX q2499) r14 m15 e16 ?_
  refine zJ_w (P := fun (j : zS → Prop) => ∀  (s17 : zS), j  s17 → zW X s17 55 [none, some (.int p7), none] []) hw (fun  s17 hw => ?_) (fun j18 hj18 hw => ?_)
  · refine z_iload_n hX dX3_value_55 rfl (i := 1) rfl ?_
    exact z_ireturn hX hR dX3_value_56 rfl hw
  · refine z_icmp_ge hX dX3_value_12 (tgt := 55) rfl (fun c19 => ?_) (fun c19 => ?_)
    · have hw := hw.1 c19
      refine z_sub (ls' := [none, some (.int p7), none]) (zsN (zsS (zsN (zs0)))) ?_
      exact hj18  _ hw
    · have hw := hw.2 c19
      refine z_aload_n hX dX3_value_15 rfl (i := 0) rfl ?_
      obtain ⟨a21, f22, v20, r23, m24, e25, hw⟩ := hw
      refine z_get hX zc4 (k := 32) dX3_value_16 (Nat.le_of_ble_eq_true rfl) (zlk hX q2501) r23 m24 e25 ?_
      refine z_iconst hX (v := (2 : Int32)) dX3_value_19 (by decide) ?_
      refine z_icmp_ne hX dX3_value_20 (tgt := 55) rfl (fun c26 => ?_) (fun c26 => ?_)
      · have hw := hw.1 c26
        refine z_sub (ls' := [none, some (.int p7), none]) (zsN (zsS (zsN (zs0)))) ?_
        exact hj18  _ hw
      · have hw := hw.2 c26
        refine z_ldc2 hX dX3_value_23 q3081 ?_
        refine z_ldc2 hX dX3_value_26 q3082 ?_
        refine z_iload_n hX dX3_value_29 rfl (i := 1) rfl ?_
        refine z_i2l hX dX3_value_30 ?_
        refine z_lmul hX dX3_value_31 ?_
        refine z_aload_n hX dX3_value_32 rfl (i := 0) rfl ?_
        obtain ⟨a28, f29, v27, r30, m31, e32, hw⟩ := hw
        refine z_get hX zc4 (k := 27) dX3_value_33 (Nat.le_of_ble_eq_true rfl) (zlk hX q2496) r30 m31 e32 ?_
        refine z_iload_n hX dX3_value_36 rfl (i := 2) rfl ?_
        obtain ⟨a33, n34, f35, r36, m37, i38, hw⟩ := hw
        refine z_iald hX dX3_value_37 r36 m37 i38 ?_
        revert hw
        generalize f35 (Int32.toNatClampNeg p8) = v39
        intro hw
        refine z_i2l hX dX3_value_38 ?_
        refine z_ladd hX dX3_value_39 ?_
        refine z_ldc2 hX dX3_value_40 q3083 ?_
        refine z_lsub hX dX3_value_43 ?_
        refine z_topl (fun v41 e42 => ?_)
        have hw := hw v41 e42
        refine z_invS hX hd dX3_value_44 (hC 299 _ zm299 _ _ _ _ hw) q3084 q3085 zh8 q3086 q137 zn299 rfl (Nat.le_of_ble_eq_true rfl) (st := []) rfl (zcs8 (Nat.le_of_ble_eq_true rfl)) rfl (zkL (fun v43 s44 hw => ?_)) (zout hX hR hTb)
        refine z_l2i hX dX3_value_47 ?_
        refine z_istore_n hX dX3_value_48 rfl (i := 1) (Nat.le_of_ble_eq_true rfl) (zc_rf _) (ls2 := [some (va_rf (some a0)), some (.int v43.toInt32), some (.int p8)]) rfl ?_
        obtain ⟨v46, e47⟩ : ∃ y : Int32, y = p8 + (1 : Int32) := ⟨_, rfl⟩
        refine z_iinc hX dX3_value_49 (i := 2) (v := v46) rfl (by rw [e47]; rfl) (Nat.le_of_ble_eq_true rfl) rfl (ls2 := [some (va_rf (some a0)), some (.int v43.toInt32), some (.int v46)]) rfl ?_
        have hw := hw v46 e47
        refine z_goto hX dX3_value_52 (tgt := 7) rfl ?_
        exact hrec10 _ _ _ hw
abbrev cX3_accept : ByteArray := prog_28_method_122_code
def yX3_accept : MethodName := ⟨RX3, "accept", "(Ljava/lang/String;)Z"⟩
def dkwX3_accept_0 : List UInt8 := [42, 43, 182, 1, 174, 61, 28, 153, 0, 7, 42, 182, 1, 158, 28, 172]
abbrev dktX3_accept_0 : List UInt8 := dkwX3_accept_0 ++ []
theorem dksX3_accept_0 : cX3_accept.data.toList.drop 0 = dktX3_accept_0 := by decide +kernel
theorem dX3_accept_0 : decode cX3_accept 0 = .ok (.aload_n 0, 1) := dk_42 (dk_at dksX3_accept_0 0 rfl rfl)
theorem dX3_accept_1 : decode cX3_accept 1 = .ok (.aload_n 1, 1) := dk_43 (dk_at dksX3_accept_0 1 rfl rfl)
theorem dX3_accept_2 : decode cX3_accept 2 = .ok (.invokevirtual 430, 3) := dk_182 1 174 (dk_at dksX3_accept_0 2 rfl rfl)
theorem dX3_accept_5 : decode cX3_accept 5 = .ok (.istore_n 2, 1) := dk_61 (dk_at dksX3_accept_0 5 rfl rfl)
theorem dX3_accept_6 : decode cX3_accept 6 = .ok (.iload_n 2, 1) := dk_28 (dk_at dksX3_accept_0 6 rfl rfl)
theorem dX3_accept_7 : decode cX3_accept 7 = .ok (.ifCond .eq 7, 3) := dk_153 0 7 (dk_at dksX3_accept_0 7 rfl rfl)
theorem dX3_accept_10 : decode cX3_accept 10 = .ok (.aload_n 0, 1) := dk_42 (dk_at dksX3_accept_0 10 rfl rfl)
theorem dX3_accept_11 : decode cX3_accept 11 = .ok (.invokevirtual 414, 3) := dk_182 1 158 (dk_at dksX3_accept_0 11 rfl rfl)
theorem dX3_accept_14 : decode cX3_accept 14 = .ok (.iload_n 2, 1) := dk_28 (dk_at dksX3_accept_0 14 rfl rfl)
theorem dX3_accept_15 : decode cX3_accept 15 = .ok (.ireturn, 1) := dk_172 (dk_at dksX3_accept_0 15 rfl rfl)
/-- PackingDuelModel.accept(Ljava/lang/String;)Z -/
def zb278 (G : zPg) (C : zO) (args : List Value) (Q : zQ) (Y : zY) (σ : zS) : Prop := ∃ (a0 : Nat) (x1 : Option Nat), args = [.ref a0, va_rf x1] ∧ (zrc σ (some a0) 4 (fun a4 => zcl C 272 [.ref a4, va_rf x1] Y σ (zqI (fun v1 s2 => zJ (fun  (s8 : zS) => zbool v1 ∧ Q (some (.int v1)) s8) (fun (j9 : zS → Prop) => ((v1 = 0) → j9 s2) ∧ ((¬ v1 = 0) → zrc s2 (some a0) 4 (fun a14 => zcl C 266 [.ref a14] Y s2 (zqV (fun s12 => j9 s12)))))))))
set_option maxHeartbeats 4000000 in
theorem wk278 {l : Launch} {g : zG} {d : Nat} {C : zO} (hG : zGk g) (hC : zSound l g d C) {args : List Value} {Q : zQ} {Y : zY} {σ : zS} (hw : zb278 (zpg g) C args Q Y σ) : zMet l g (d + 1) (⟨"PackingDuelModel", "accept", "(Ljava/lang/String;)Z"⟩, Cond.code ⟨"PackingDuelModel", "accept", "(Ljava/lang/String;)Z"⟩ prog_28_method_122_code 3 (Option.some FieldType.boolean)) args σ Q Y := by
  obtain ⟨a0, x1, rfl, hw⟩ := hw
  refine zof hG (by decide +kernel) [false, false] ⟨rfl, (zc_rf _), trivial⟩ (Nat.le_of_ble_eq_true rfl) (ls := [some (va_rf (some a0)), some (va_rf x1), none]) rfl ?_
  intro X hX hR hTb hd1 hd2 hl hg hnm
  subst hl
  subst hg
  have hd : zDep X d := ⟨hd1, hd2⟩
  refine z_aload_n hX dX3_accept_0 rfl (i := 0) rfl ?_
  refine z_aload_n hX dX3_accept_1 rfl (i := 1) rfl ?_
  obtain ⟨a4, f5, r6, m7, hw⟩ := hw
  refine z_invV hX hd r6 (ci := 4) rfl rfl m7 dX3_accept_2 (hC 272 _ zm272 _ _ _ _ hw) q3055 q3057 qs108 zh7 q3058 q136 zn272 rfl (Nat.le_of_ble_eq_true rfl) (st := []) rfl (zcs8 (Nat.le_of_ble_eq_true rfl)) rfl (zkI (fun v1 s2 hw => ?_)) (zout hX hR hTb)
  refine z_istore_n hX dX3_accept_5 rfl (i := 2) (Nat.le_of_ble_eq_true rfl) (zc_rf _) (ls2 := [some (va_rf (some a0)), some (va_rf x1), some (.int v1)]) rfl ?_
  refine z_iload_n hX dX3_accept_6 rfl (i := 2) rfl ?_
  refine zJ_w (P := fun (j : zS → Prop) => ∀  (s8 : zS), j  s8 → zW X s8 14 [none, none, some (.int v1)] []) hw (fun  s8 hw => ?_) (fun j9 hj9 hw => ?_)
  · refine z_iload_n hX dX3_accept_14 rfl (i := 2) rfl ?_
    exact z_ireturn hX hR dX3_accept_15 (zn_z hw.1) hw.2
  · refine z_if_eq hX dX3_accept_7 (tgt := 14) rfl (fun c10 => ?_) (fun c10 => ?_)
    · have hw := hw.1 c10
      refine z_sub (ls' := [none, none, some (.int v1)]) (zsN (zsN (zsS (zs0)))) ?_
      exact hj9  _ hw
    · have hw := hw.2 c10
      refine z_aload_n hX dX3_accept_10 rfl (i := 0) rfl ?_
      obtain ⟨a14, f15, r16, m17, hw⟩ := hw
      refine z_invV hX hd r16 (ci := 4) rfl rfl m17 dX3_accept_11 (hC 266 _ zm266 _ _ _ _ hw) q3030 q3032 qs102 zh7 q3033 q136 zn266 rfl (Nat.le_of_ble_eq_true rfl) (st := []) rfl (zcs8 (Nat.le_of_ble_eq_true rfl)) rfl (zkV (fun s12 hw => ?_)) (zout hX hR hTb)
      refine z_sub (ls' := [none, none, some (.int v1)]) (zsN (zsN (zsS (zs0)))) ?_
      exact hj9  _ hw
abbrev cX3_expect : ByteArray := prog_28_method_124_code
def yX3_expect : MethodName := ⟨RX3, "expect", "(I)V"⟩
def dkwX3_expect_0 : List UInt8 := [42, 42, 27, 182, 1, 184, 4, 182, 1, 178, 42, 182, 1, 181, 177]
abbrev dktX3_expect_0 : List UInt8 := dkwX3_expect_0 ++ []
theorem dksX3_expect_0 : cX3_expect.data.toList.drop 0 = dktX3_expect_0 := by decide +kernel
theorem dX3_expect_0 : decode cX3_expect 0 = .ok (.aload_n 0, 1) := dk_42 (dk_at dksX3_expect_0 0 rfl rfl)
theorem dX3_expect_1 : decode cX3_expect 1 = .ok (.aload_n 0, 1) := dk_42 (dk_at dksX3_expect_0 1 rfl rfl)
theorem dX3_expect_2 : decode cX3_expect 2 = .ok (.iload_n 1, 1) := dk_27 (dk_at dksX3_expect_0 2 rfl rfl)
theorem dX3_expect_3 : decode cX3_expect 3 = .ok (.invokevirtual 440, 3) := dk_182 1 184 (dk_at dksX3_expect_0 3 rfl rfl)
theorem dX3_expect_6 : decode cX3_expect 6 = .ok (.iconst 1, 1) := dk_4 (dk_at dksX3_expect_0 6 rfl rfl)
theorem dX3_expect_7 : decode cX3_expect 7 = .ok (.invokevirtual 434, 3) := dk_182 1 178 (dk_at dksX3_expect_0 7 rfl rfl)
theorem dX3_expect_10 : decode cX3_expect 10 = .ok (.aload_n 0, 1) := dk_42 (dk_at dksX3_expect_0 10 rfl rfl)
theorem dX3_expect_11 : decode cX3_expect 11 = .ok (.invokevirtual 437, 3) := dk_182 1 181 (dk_at dksX3_expect_0 11 rfl rfl)
theorem dX3_expect_14 : decode cX3_expect 14 = .ok (.return_, 1) := dk_177 (dk_at dksX3_expect_0 14 rfl rfl)
/-- PackingDuelModel.expect(I)V -/
def zb279 (G : zPg) (C : zO) (args : List Value) (Q : zQ) (Y : zY) (σ : zS) : Prop := ∃ (a0 : Nat) (x1 : Int32), args = [.ref a0, .int x1] ∧ (zrc σ (some a0) 4 (fun a4 => zcl C 280 [.ref a4, .int x1] Y σ (zqI (fun v1 s2 => zrc s2 (some a0) 4 (fun a11 => zcl C 273 [.ref a11, .int v1, .int (1 : Int32)] Y s2 (zqV (fun s9 => zrc s9 (some a0) 4 (fun a18 => zcl C 275 [.ref a18] Y s9 (zqV (fun s16 => Q none s16))))))))))
set_option maxHeartbeats 4000000 in
theorem wk279 {l : Launch} {g : zG} {d : Nat} {C : zO} (hG : zGk g) (hC : zSound l g d C) {args : List Value} {Q : zQ} {Y : zY} {σ : zS} (hw : zb279 (zpg g) C args Q Y σ) : zMet l g (d + 1) (⟨"PackingDuelModel", "expect", "(I)V"⟩, Cond.code ⟨"PackingDuelModel", "expect", "(I)V"⟩ prog_28_method_124_code 2 (Option.none : Option FieldType)) args σ Q Y := by
  obtain ⟨a0, x1, rfl, hw⟩ := hw
  refine zof hG (by decide +kernel) [false, false] ⟨rfl, rfl, trivial⟩ (Nat.le_of_ble_eq_true rfl) (ls := [some (va_rf (some a0)), some (.int x1)]) rfl ?_
  intro X hX hR hTb hd1 hd2 hl hg hnm
  subst hl
  subst hg
  have hd : zDep X d := ⟨hd1, hd2⟩
  refine z_aload_n hX dX3_expect_0 rfl (i := 0) rfl ?_
  refine z_aload_n hX dX3_expect_1 rfl (i := 0) rfl ?_
  refine z_iload_n hX dX3_expect_2 rfl (i := 1) rfl ?_
  obtain ⟨a4, f5, r6, m7, hw⟩ := hw
  refine z_invV hX hd r6 (ci := 4) rfl rfl m7 dX3_expect_3 (hC 280 _ zm280 _ _ _ _ hw) q3096 q3098 qs116 zh7 q3099 q136 zn280 rfl (Nat.le_of_ble_eq_true rfl) (st := [va_rf (some a0)]) rfl (zcs8 (Nat.le_of_ble_eq_true rfl)) rfl (zkI (fun v1 s2 hw => ?_)) (zout hX hR hTb)
  refine z_iconst hX (v := (1 : Int32)) dX3_expect_6 (by decide) ?_
  obtain ⟨a11, f12, r13, m14, hw⟩ := hw
  refine z_invV hX hd r13 (ci := 4) rfl rfl m14 dX3_expect_7 (hC 273 _ zm273 _ _ _ _ hw) q3061 q3063 qs109 zh7 q3064 q136 zn273 rfl (Nat.le_of_ble_eq_true rfl) (st := []) rfl (zcs8 (Nat.le_of_ble_eq_true rfl)) rfl (zkV (fun s9 hw => ?_)) (zout hX hR hTb)
  refine z_aload_n hX dX3_expect_10 rfl (i := 0) rfl ?_
  obtain ⟨a18, f19, r20, m21, hw⟩ := hw
  refine z_invV hX hd r20 (ci := 4) rfl rfl m21 dX3_expect_11 (hC 275 _ zm275 _ _ _ _ hw) q3069 q3071 qs111 zh7 q3072 q136 zn275 rfl (Nat.le_of_ble_eq_true rfl) (st := []) rfl (zcs8 (Nat.le_of_ble_eq_true rfl)) rfl (zkV (fun s16 hw => ?_)) (zout hX hR hTb)
  exact z_return hX hR dX3_expect_14 hw
abbrev cX3_isSymbol : ByteArray := prog_28_method_120_code
def yX3_isSymbol : MethodName := ⟨RX3, "isSymbol", "(I)Z"⟩
def dkwX3_isSymbol_1 : List UInt8 := [27, 160, 0, 7, 4, 167, 0, 4, 3, 172]
abbrev dktX3_isSymbol_1 : List UInt8 := dkwX3_isSymbol_1 ++ []
def dkwX3_isSymbol_0 : List UInt8 := [42, 180, 1, 152, 154, 0, 28, 42, 180, 1, 143, 6, 160, 0, 20, 42, 180, 0, 62, 42, 180, 1, 140, 46]
abbrev dktX3_isSymbol_0 : List UInt8 := dkwX3_isSymbol_0 ++ dktX3_isSymbol_1
theorem dksX3_isSymbol_0 : cX3_isSymbol.data.toList.drop 0 = dktX3_isSymbol_0 := by decide +kernel
theorem dksX3_isSymbol_1 : cX3_isSymbol.data.toList.drop 24 = dktX3_isSymbol_1 := dk_seg dksX3_isSymbol_0 24 rfl rfl
theorem dX3_isSymbol_0 : decode cX3_isSymbol 0 = .ok (.aload_n 0, 1) := dk_42 (dk_at dksX3_isSymbol_0 0 rfl rfl)
theorem dX3_isSymbol_1 : decode cX3_isSymbol 1 = .ok (.getfield 408, 3) := dk_180 1 152 (dk_at dksX3_isSymbol_0 1 rfl rfl)
theorem dX3_isSymbol_4 : decode cX3_isSymbol 4 = .ok (.ifCond .ne 28, 3) := dk_154 0 28 (dk_at dksX3_isSymbol_0 4 rfl rfl)
theorem dX3_isSymbol_7 : decode cX3_isSymbol 7 = .ok (.aload_n 0, 1) := dk_42 (dk_at dksX3_isSymbol_0 7 rfl rfl)
theorem dX3_isSymbol_8 : decode cX3_isSymbol 8 = .ok (.getfield 399, 3) := dk_180 1 143 (dk_at dksX3_isSymbol_0 8 rfl rfl)
theorem dX3_isSymbol_11 : decode cX3_isSymbol 11 = .ok (.iconst 3, 1) := dk_6 (dk_at dksX3_isSymbol_0 11 rfl rfl)
theorem dX3_isSymbol_12 : decode cX3_isSymbol 12 = .ok (.if_icmp .ne 20, 3) := dk_160 0 20 (dk_at dksX3_isSymbol_0 12 rfl rfl)
theorem dX3_isSymbol_15 : decode cX3_isSymbol 15 = .ok (.aload_n 0, 1) := dk_42 (dk_at dksX3_isSymbol_0 15 rfl rfl)
theorem dX3_isSymbol_16 : decode cX3_isSymbol 16 = .ok (.getfield 62, 3) := dk_180 0 62 (dk_at dksX3_isSymbol_0 16 rfl rfl)
theorem dX3_isSymbol_19 : decode cX3_isSymbol 19 = .ok (.aload_n 0, 1) := dk_42 (dk_at dksX3_isSymbol_0 19 rfl rfl)
theorem dX3_isSymbol_20 : decode cX3_isSymbol 20 = .ok (.getfield 396, 3) := dk_180 1 140 (dk_at dksX3_isSymbol_0 20 rfl rfl)
theorem dX3_isSymbol_23 : decode cX3_isSymbol 23 = .ok (.iaload, 1) := dk_46 (dk_at dksX3_isSymbol_0 23 rfl rfl)
theorem dX3_isSymbol_24 : decode cX3_isSymbol 24 = .ok (.iload_n 1, 1) := dk_27 (dk_at dksX3_isSymbol_1 0 rfl rfl)
theorem dX3_isSymbol_25 : decode cX3_isSymbol 25 = .ok (.if_icmp .ne 7, 3) := dk_160 0 7 (dk_at dksX3_isSymbol_1 1 rfl rfl)
theorem dX3_isSymbol_28 : decode cX3_isSymbol 28 = .ok (.iconst 1, 1) := dk_4 (dk_at dksX3_isSymbol_1 4 rfl rfl)
theorem dX3_isSymbol_29 : decode cX3_isSymbol 29 = .ok (.goto 4, 3) := dk_167 0 4 (dk_at dksX3_isSymbol_1 5 rfl rfl)
theorem dX3_isSymbol_32 : decode cX3_isSymbol 32 = .ok (.iconst 0, 1) := dk_3 (dk_at dksX3_isSymbol_1 8 rfl rfl)
theorem dX3_isSymbol_33 : decode cX3_isSymbol 33 = .ok (.ireturn, 1) := dk_172 (dk_at dksX3_isSymbol_1 9 rfl rfl)
/-- PackingDuelModel.isSymbol(I)Z -/
def zb280 (G : zPg) (C : zO) (args : List Value) (Q : zQ) (Y : zY) (σ : zS) : Prop := ∃ (a0 : Nat) (x1 : Int32), args = [.ref a0, .int x1] ∧ (zgI σ (some a0) 4 33 (fun v1 => zJ (fun (p7 : Int32) (s8 : zS) => zbool p7 ∧ Q (some (.int p7)) s8) (fun (j9 : Int32 → zS → Prop) => zJ (fun  (s10 : zS) => j9 (0 : Int32) s10) (fun (j11 : zS → Prop) => ((¬ v1 = 0) → j11 σ) ∧ ((v1 = 0) → zgI σ (some a0) 4 32 (fun v13 => ((¬ v13 = (3 : Int32)) → j11 σ) ∧ ((v13 = (3 : Int32)) → zgR σ (some a0) 4 27 (fun v20 => zgI σ (some a0) 4 31 (fun v26 => zaI σ 0 v20 v26 (fun v38 => ((¬ v38 = x1) → j11 σ) ∧ ((v38 = x1) → j9 (1 : Int32) σ)))))))))))
set_option maxHeartbeats 4000000 in
theorem wk280 {l : Launch} {g : zG} {d : Nat} {C : zO} (hG : zGk g) (hC : zSound l g d C) {args : List Value} {Q : zQ} {Y : zY} {σ : zS} (hw : zb280 (zpg g) C args Q Y σ) : zMet l g (d + 1) (⟨"PackingDuelModel", "isSymbol", "(I)Z"⟩, Cond.code ⟨"PackingDuelModel", "isSymbol", "(I)Z"⟩ prog_28_method_120_code 2 (Option.some FieldType.boolean)) args σ Q Y := by
  obtain ⟨a0, x1, rfl, hw⟩ := hw
  refine zof hG (by decide +kernel) [false, false] ⟨rfl, rfl, trivial⟩ (Nat.le_of_ble_eq_true rfl) (ls := [some (va_rf (some a0)), some (.int x1)]) rfl ?_
  intro X hX hR hTb hd1 hd2 hl hg hnm
  subst hl
  subst hg
  have hd : zDep X d := ⟨hd1, hd2⟩
  refine z_aload_n hX dX3_isSymbol_0 rfl (i := 0) rfl ?_
  obtain ⟨a2, f3, v1, r4, m5, e6, hw⟩ := hw
  refine z_get hX zc4 (k := 33) dX3_isSymbol_1 (Nat.le_of_ble_eq_true rfl) (zlk hX q2502) r4 m5 e6 ?_
  refine zJ_w (P := fun (j : Int32 → zS → Prop) => ∀ (p7 : Int32) (s8 : zS), j p7 s8 → zW X s8 33 [none, none] [.int p7]) hw (fun p7 s8 hw => ?_) (fun j9 hj9 hw => ?_)
  · exact z_ireturn hX hR dX3_isSymbol_33 (zn_z hw.1) hw.2
  · refine zJ_w (P := fun (j : zS → Prop) => ∀  (s10 : zS), j  s10 → zW X s10 32 [none, none] []) hw (fun  s10 hw => ?_) (fun j11 hj11 hw => ?_)
    · refine z_iconst hX (v := (0 : Int32)) dX3_isSymbol_32 (by decide) ?_
      exact hj9 _ _ hw
    · refine z_if_ne hX dX3_isSymbol_4 (tgt := 32) rfl (fun c12 => ?_) (fun c12 => ?_)
      · have hw := hw.1 c12
        refine z_sub (ls' := [none, none]) (zsN (zsN (zs0))) ?_
        exact hj11  _ hw
      · have hw := hw.2 c12
        refine z_aload_n hX dX3_isSymbol_7 rfl (i := 0) rfl ?_
        obtain ⟨a14, f15, v13, r16, m17, e18, hw⟩ := hw
        refine z_get hX zc4 (k := 32) dX3_isSymbol_8 (Nat.le_of_ble_eq_true rfl) (zlk hX q2501) r16 m17 e18 ?_
        refine z_iconst hX (v := (3 : Int32)) dX3_isSymbol_11 (by decide) ?_
        refine z_icmp_ne hX dX3_isSymbol_12 (tgt := 32) rfl (fun c19 => ?_) (fun c19 => ?_)
        · have hw := hw.1 c19
          refine z_sub (ls' := [none, none]) (zsN (zsN (zs0))) ?_
          exact hj11  _ hw
        · have hw := hw.2 c19
          refine z_aload_n hX dX3_isSymbol_15 rfl (i := 0) rfl ?_
          obtain ⟨a21, f22, v20, r23, m24, e25, hw⟩ := hw
          refine z_get hX zc4 (k := 27) dX3_isSymbol_16 (Nat.le_of_ble_eq_true rfl) (zlk hX q2496) r23 m24 e25 ?_
          refine z_aload_n hX dX3_isSymbol_19 rfl (i := 0) rfl ?_
          obtain ⟨a27, f28, v26, r29, m30, e31, hw⟩ := hw
          refine z_get hX zc4 (k := 31) dX3_isSymbol_20 (Nat.le_of_ble_eq_true rfl) (zlk hX q2500) r29 m30 e31 ?_
          obtain ⟨a32, n33, f34, r35, m36, i37, hw⟩ := hw
          refine z_iald hX dX3_isSymbol_23 r35 m36 i37 ?_
          revert hw
          generalize f34 (Int32.toNatClampNeg v26) = v38
          intro hw
          refine z_iload_n hX dX3_isSymbol_24 rfl (i := 1) rfl ?_
          refine z_icmp_ne hX dX3_isSymbol_25 (tgt := 32) rfl (fun c40 => ?_) (fun c40 => ?_)
          · have hw := hw.1 c40
            refine z_sub (ls' := [none, none]) (zsN (zsN (zs0))) ?_
            exact hj11  _ hw
          · have hw := hw.2 c40
            refine z_iconst hX (v := (1 : Int32)) dX3_isSymbol_28 (by decide) ?_
            refine z_goto hX dX3_isSymbol_29 (tgt := 33) rfl ?_
            refine z_sub (ls' := [none, none]) (zsN (zsN (zs0))) ?_
            exact hj9 _ _ hw
abbrev cX3_readItem : ByteArray := prog_28_method_127_code
def yX3_readItem : MethodName := ⟨RX3, "readItem", "()V"⟩
def dkwX3_readItem_4 : List UInt8 := [3, 92, 46, 4, 96, 79, 42, 16, 59, 182, 1, 201, 177]
abbrev dktX3_readItem_4 : List UInt8 := dkwX3_readItem_4 ++ []
def dkwX3_readItem_3 : List UInt8 := [180, 0, 13, 27, 28, 96, 42, 3, 16, 99, 182, 1, 198, 79, 132, 2, 1, 167, 255, 233, 42, 180, 0, 13]
abbrev dktX3_readItem_3 : List UInt8 := dkwX3_readItem_3 ++ dktX3_readItem_4
def dkwX3_readItem_2 : List UInt8 := [180, 0, 13, 27, 3, 96, 42, 4, 16, 50, 182, 1, 198, 79, 4, 61, 28, 6, 163, 0, 24, 42]
abbrev dktX3_readItem_2 : List UInt8 := dkwX3_readItem_2 ++ dktX3_readItem_3
def dkwX3_readItem_1 : List UInt8 := [182, 1, 181, 42, 180, 1, 152, 153, 0, 4, 177, 16, 11, 7, 42, 180, 0, 13, 3, 46, 104, 96, 60, 42]
abbrev dktX3_readItem_1 : List UInt8 := dkwX3_readItem_1 ++ dktX3_readItem_2
def dkwX3_readItem_0 : List UInt8 := [42, 42, 180, 0, 13, 3, 46, 16, 10, 162, 0, 7, 4, 167, 0, 4, 3, 6, 182, 1, 178, 42]
abbrev dktX3_readItem_0 : List UInt8 := dkwX3_readItem_0 ++ dktX3_readItem_1
theorem dksX3_readItem_0 : cX3_readItem.data.toList.drop 0 = dktX3_readItem_0 := by decide +kernel
theorem dksX3_readItem_1 : cX3_readItem.data.toList.drop 22 = dktX3_readItem_1 := dk_seg dksX3_readItem_0 22 rfl rfl
theorem dksX3_readItem_2 : cX3_readItem.data.toList.drop 46 = dktX3_readItem_2 := dk_seg dksX3_readItem_1 24 rfl rfl
theorem dksX3_readItem_3 : cX3_readItem.data.toList.drop 68 = dktX3_readItem_3 := dk_seg dksX3_readItem_2 22 rfl rfl
theorem dksX3_readItem_4 : cX3_readItem.data.toList.drop 92 = dktX3_readItem_4 := dk_seg dksX3_readItem_3 24 rfl rfl
theorem dX3_readItem_0 : decode cX3_readItem 0 = .ok (.aload_n 0, 1) := dk_42 (dk_at dksX3_readItem_0 0 rfl rfl)
theorem dX3_readItem_1 : decode cX3_readItem 1 = .ok (.aload_n 0, 1) := dk_42 (dk_at dksX3_readItem_0 1 rfl rfl)
theorem dX3_readItem_2 : decode cX3_readItem 2 = .ok (.getfield 13, 3) := dk_180 0 13 (dk_at dksX3_readItem_0 2 rfl rfl)
theorem dX3_readItem_5 : decode cX3_readItem 5 = .ok (.iconst 0, 1) := dk_3 (dk_at dksX3_readItem_0 5 rfl rfl)
theorem dX3_readItem_6 : decode cX3_readItem 6 = .ok (.iaload, 1) := dk_46 (dk_at dksX3_readItem_0 6 rfl rfl)
theorem dX3_readItem_7 : decode cX3_readItem 7 = .ok (.bipush 10, 2) := dk_16 10 (dk_at dksX3_readItem_0 7 rfl rfl)
theorem dX3_readItem_9 : decode cX3_readItem 9 = .ok (.if_icmp .ge 7, 3) := dk_162 0 7 (dk_at dksX3_readItem_0 9 rfl rfl)
theorem dX3_readItem_12 : decode cX3_readItem 12 = .ok (.iconst 1, 1) := dk_4 (dk_at dksX3_readItem_0 12 rfl rfl)
theorem dX3_readItem_13 : decode cX3_readItem 13 = .ok (.goto 4, 3) := dk_167 0 4 (dk_at dksX3_readItem_0 13 rfl rfl)
theorem dX3_readItem_16 : decode cX3_readItem 16 = .ok (.iconst 0, 1) := dk_3 (dk_at dksX3_readItem_0 16 rfl rfl)
theorem dX3_readItem_17 : decode cX3_readItem 17 = .ok (.iconst 3, 1) := dk_6 (dk_at dksX3_readItem_0 17 rfl rfl)
theorem dX3_readItem_18 : decode cX3_readItem 18 = .ok (.invokevirtual 434, 3) := dk_182 1 178 (dk_at dksX3_readItem_0 18 rfl rfl)
theorem dX3_readItem_21 : decode cX3_readItem 21 = .ok (.aload_n 0, 1) := dk_42 (dk_at dksX3_readItem_0 21 rfl rfl)
theorem dX3_readItem_22 : decode cX3_readItem 22 = .ok (.invokevirtual 437, 3) := dk_182 1 181 (dk_at dksX3_readItem_1 0 rfl rfl)
theorem dX3_readItem_25 : decode cX3_readItem 25 = .ok (.aload_n 0, 1) := dk_42 (dk_at dksX3_readItem_1 3 rfl rfl)
theorem dX3_readItem_26 : decode cX3_readItem 26 = .ok (.getfield 408, 3) := dk_180 1 152 (dk_at dksX3_readItem_1 4 rfl rfl)
theorem dX3_readItem_29 : decode cX3_readItem 29 = .ok (.ifCond .eq 4, 3) := dk_153 0 4 (dk_at dksX3_readItem_1 7 rfl rfl)
theorem dX3_readItem_32 : decode cX3_readItem 32 = .ok (.return_, 1) := dk_177 (dk_at dksX3_readItem_1 10 rfl rfl)
theorem dX3_readItem_33 : decode cX3_readItem 33 = .ok (.bipush 11, 2) := dk_16 11 (dk_at dksX3_readItem_1 11 rfl rfl)
theorem dX3_readItem_35 : decode cX3_readItem 35 = .ok (.iconst 4, 1) := dk_7 (dk_at dksX3_readItem_1 13 rfl rfl)
theorem dX3_readItem_36 : decode cX3_readItem 36 = .ok (.aload_n 0, 1) := dk_42 (dk_at dksX3_readItem_1 14 rfl rfl)
theorem dX3_readItem_37 : decode cX3_readItem 37 = .ok (.getfield 13, 3) := dk_180 0 13 (dk_at dksX3_readItem_1 15 rfl rfl)
theorem dX3_readItem_40 : decode cX3_readItem 40 = .ok (.iconst 0, 1) := dk_3 (dk_at dksX3_readItem_1 18 rfl rfl)
theorem dX3_readItem_41 : decode cX3_readItem 41 = .ok (.iaload, 1) := dk_46 (dk_at dksX3_readItem_1 19 rfl rfl)
theorem dX3_readItem_42 : decode cX3_readItem 42 = .ok (.imul, 1) := dk_104 (dk_at dksX3_readItem_1 20 rfl rfl)
theorem dX3_readItem_43 : decode cX3_readItem 43 = .ok (.iadd, 1) := dk_96 (dk_at dksX3_readItem_1 21 rfl rfl)
theorem dX3_readItem_44 : decode cX3_readItem 44 = .ok (.istore_n 1, 1) := dk_60 (dk_at dksX3_readItem_1 22 rfl rfl)
theorem dX3_readItem_45 : decode cX3_readItem 45 = .ok (.aload_n 0, 1) := dk_42 (dk_at dksX3_readItem_1 23 rfl rfl)
theorem dX3_readItem_46 : decode cX3_readItem 46 = .ok (.getfield 13, 3) := dk_180 0 13 (dk_at dksX3_readItem_2 0 rfl rfl)
theorem dX3_readItem_49 : decode cX3_readItem 49 = .ok (.iload_n 1, 1) := dk_27 (dk_at dksX3_readItem_2 3 rfl rfl)
theorem dX3_readItem_50 : decode cX3_readItem 50 = .ok (.iconst 0, 1) := dk_3 (dk_at dksX3_readItem_2 4 rfl rfl)
theorem dX3_readItem_51 : decode cX3_readItem 51 = .ok (.iadd, 1) := dk_96 (dk_at dksX3_readItem_2 5 rfl rfl)
theorem dX3_readItem_52 : decode cX3_readItem 52 = .ok (.aload_n 0, 1) := dk_42 (dk_at dksX3_readItem_2 6 rfl rfl)
theorem dX3_readItem_53 : decode cX3_readItem 53 = .ok (.iconst 1, 1) := dk_4 (dk_at dksX3_readItem_2 7 rfl rfl)
theorem dX3_readItem_54 : decode cX3_readItem 54 = .ok (.bipush 50, 2) := dk_16 50 (dk_at dksX3_readItem_2 8 rfl rfl)
theorem dX3_readItem_56 : decode cX3_readItem 56 = .ok (.invokevirtual 454, 3) := dk_182 1 198 (dk_at dksX3_readItem_2 10 rfl rfl)
theorem dX3_readItem_59 : decode cX3_readItem 59 = .ok (.iastore, 1) := dk_79 (dk_at dksX3_readItem_2 13 rfl rfl)
theorem dX3_readItem_60 : decode cX3_readItem 60 = .ok (.iconst 1, 1) := dk_4 (dk_at dksX3_readItem_2 14 rfl rfl)
theorem dX3_readItem_61 : decode cX3_readItem 61 = .ok (.istore_n 2, 1) := dk_61 (dk_at dksX3_readItem_2 15 rfl rfl)
theorem dX3_readItem_62 : decode cX3_readItem 62 = .ok (.iload_n 2, 1) := dk_28 (dk_at dksX3_readItem_2 16 rfl rfl)
theorem dX3_readItem_63 : decode cX3_readItem 63 = .ok (.iconst 3, 1) := dk_6 (dk_at dksX3_readItem_2 17 rfl rfl)
theorem dX3_readItem_64 : decode cX3_readItem 64 = .ok (.if_icmp .gt 24, 3) := dk_163 0 24 (dk_at dksX3_readItem_2 18 rfl rfl)
theorem dX3_readItem_67 : decode cX3_readItem 67 = .ok (.aload_n 0, 1) := dk_42 (dk_at dksX3_readItem_2 21 rfl rfl)
theorem dX3_readItem_68 : decode cX3_readItem 68 = .ok (.getfield 13, 3) := dk_180 0 13 (dk_at dksX3_readItem_3 0 rfl rfl)
theorem dX3_readItem_71 : decode cX3_readItem 71 = .ok (.iload_n 1, 1) := dk_27 (dk_at dksX3_readItem_3 3 rfl rfl)
theorem dX3_readItem_72 : decode cX3_readItem 72 = .ok (.iload_n 2, 1) := dk_28 (dk_at dksX3_readItem_3 4 rfl rfl)
theorem dX3_readItem_73 : decode cX3_readItem 73 = .ok (.iadd, 1) := dk_96 (dk_at dksX3_readItem_3 5 rfl rfl)
theorem dX3_readItem_74 : decode cX3_readItem 74 = .ok (.aload_n 0, 1) := dk_42 (dk_at dksX3_readItem_3 6 rfl rfl)
theorem dX3_readItem_75 : decode cX3_readItem 75 = .ok (.iconst 0, 1) := dk_3 (dk_at dksX3_readItem_3 7 rfl rfl)
theorem dX3_readItem_76 : decode cX3_readItem 76 = .ok (.bipush 99, 2) := dk_16 99 (dk_at dksX3_readItem_3 8 rfl rfl)
theorem dX3_readItem_78 : decode cX3_readItem 78 = .ok (.invokevirtual 454, 3) := dk_182 1 198 (dk_at dksX3_readItem_3 10 rfl rfl)
theorem dX3_readItem_81 : decode cX3_readItem 81 = .ok (.iastore, 1) := dk_79 (dk_at dksX3_readItem_3 13 rfl rfl)
theorem dX3_readItem_82 : decode cX3_readItem 82 = .ok (.iinc 2 1, 3) := dk_132 2 1 (dk_at dksX3_readItem_3 14 rfl rfl)
theorem dX3_readItem_85 : decode cX3_readItem 85 = .ok (.goto (-23), 3) := dk_167 255 233 (dk_at dksX3_readItem_3 17 rfl rfl)
theorem dX3_readItem_88 : decode cX3_readItem 88 = .ok (.aload_n 0, 1) := dk_42 (dk_at dksX3_readItem_3 20 rfl rfl)
theorem dX3_readItem_89 : decode cX3_readItem 89 = .ok (.getfield 13, 3) := dk_180 0 13 (dk_at dksX3_readItem_3 21 rfl rfl)
theorem dX3_readItem_92 : decode cX3_readItem 92 = .ok (.iconst 0, 1) := dk_3 (dk_at dksX3_readItem_4 0 rfl rfl)
theorem dX3_readItem_93 : decode cX3_readItem 93 = .ok (.dup2, 1) := dk_92 (dk_at dksX3_readItem_4 1 rfl rfl)
theorem dX3_readItem_94 : decode cX3_readItem 94 = .ok (.iaload, 1) := dk_46 (dk_at dksX3_readItem_4 2 rfl rfl)
theorem dX3_readItem_95 : decode cX3_readItem 95 = .ok (.iconst 1, 1) := dk_4 (dk_at dksX3_readItem_4 3 rfl rfl)
theorem dX3_readItem_96 : decode cX3_readItem 96 = .ok (.iadd, 1) := dk_96 (dk_at dksX3_readItem_4 4 rfl rfl)
theorem dX3_readItem_97 : decode cX3_readItem 97 = .ok (.iastore, 1) := dk_79 (dk_at dksX3_readItem_4 5 rfl rfl)
theorem dX3_readItem_98 : decode cX3_readItem 98 = .ok (.aload_n 0, 1) := dk_42 (dk_at dksX3_readItem_4 6 rfl rfl)
theorem dX3_readItem_99 : decode cX3_readItem 99 = .ok (.bipush 59, 2) := dk_16 59 (dk_at dksX3_readItem_4 7 rfl rfl)
theorem dX3_readItem_101 : decode cX3_readItem 101 = .ok (.invokevirtual 457, 3) := dk_182 1 201 (dk_at dksX3_readItem_4 9 rfl rfl)
theorem dX3_readItem_104 : decode cX3_readItem 104 = .ok (.return_, 1) := dk_177 (dk_at dksX3_readItem_4 12 rfl rfl)
/-- PackingDuelModel.readItem()V -/
def zb281 (G : zPg) (C : zO) (args : List Value) (Q : zQ) (Y : zY) (σ : zS) : Prop := ∃ (a0 : Nat), args = [.ref a0] ∧ (zgR σ (some a0) 4 1 (fun v1 => zaI σ 0 v1 (0 : Int32) (fun v13 => zJ (fun (p15 : Int32) (s16 : zS) => zrc s16 (some a0) 4 (fun a21 => zcl C 273 [.ref a21, .int p15, .int (3 : Int32)] Y s16 (zqV (fun s19 => zrc s19 (some a0) 4 (fun a28 => zcl C 275 [.ref a28] Y s19 (zqV (fun s26 => zgI s26 (some a0) 4 33 (fun v32 => ((v32 = 0) → zgR s26 (some a0) 4 1 (fun v39 => zaI s26 0 v39 (0 : Int32) (fun v51 => zgR s26 (some a0) 4 1 (fun v53 => (∀ v59 : Int32, v59 = (((11 : Int32) + ((4 : Int32) * v51)) + (0 : Int32)) → zrc s26 (some a0) 4 (fun a64 => zcl C 276 [.ref a64, .int (1 : Int32), .int (50 : Int32)] Y s26 (zqI (fun v61 s62 => zsI s62 G.1 0 v53 v59 v61 (fun s75 => ∃ n, zIt (fun _ _ => False) (fun rec79 (p77 : Int32) (s78 : zS) => (((3 : Int32) < p77) → zgR s78 (some a0) 4 1 (fun v81 => zaI s78 0 v81 (0 : Int32) (fun v93 => zsI s78 G.1 0 v81 (0 : Int32) (v93 + (1 : Int32)) (fun s102 => zrc s102 (some a0) 4 (fun a107 => zcl C 279 [.ref a107, .int (59 : Int32)] Y s102 (zqV (fun s105 => Q none s105))))))) ∧ ((¬ (3 : Int32) < p77) → zgR s78 (some a0) 4 1 (fun v111 => zrc s78 (some a0) 4 (fun a120 => zcl C 276 [.ref a120, .int (0 : Int32), .int (99 : Int32)] Y s78 (zqI (fun v117 s118 => zsI s118 G.1 0 v111 (((11 : Int32) + ((4 : Int32) * v51)) + p77) v117 (fun s131 => (∀ v133 : Int32, v133 = p77 + (1 : Int32) → rec79 v133 s131)))))))) n (1 : Int32) s75))))))))) ∧ ((¬ v32 = 0) → Q none s26))))))))) (fun (j17 : Int32 → zS → Prop) => (((10 : Int32) ≤ v13) → j17 (0 : Int32) σ) ∧ ((¬ (10 : Int32) ≤ v13) → j17 (1 : Int32) σ)))))
set_option maxHeartbeats 4000000 in
theorem wk281 {l : Launch} {g : zG} {d : Nat} {C : zO} (hG : zGk g) (hC : zSound l g d C) {args : List Value} {Q : zQ} {Y : zY} {σ : zS} (hw : zb281 (zpg g) C args Q Y σ) : zMet l g (d + 1) (⟨"PackingDuelModel", "readItem", "()V"⟩, Cond.code ⟨"PackingDuelModel", "readItem", "()V"⟩ prog_28_method_127_code 3 (Option.none : Option FieldType)) args σ Q Y := by
  obtain ⟨a0, rfl, hw⟩ := hw
  refine zof hG (by decide +kernel) [false] ⟨rfl, trivial⟩ (Nat.le_of_ble_eq_true rfl) (ls := [some (va_rf (some a0)), none, none]) rfl ?_
  intro X hX hR hTb hd1 hd2 hl hg hnm
  subst hl
  subst hg
  have hd : zDep X d := ⟨hd1, hd2⟩
  refine z_aload_n hX dX3_readItem_0 rfl (i := 0) rfl ?_
  refine z_aload_n hX dX3_readItem_1 rfl (i := 0) rfl ?_
  obtain ⟨a2, f3, v1, r4, m5, e6, hw⟩ := hw
  refine z_get hX zc4 (k := 1) dX3_readItem_2 (Nat.le_of_ble_eq_true rfl) (zlk hX q2470) r4 m5 e6 ?_
  refine z_iconst hX (v := (0 : Int32)) dX3_readItem_5 (by decide) ?_
  obtain ⟨a7, n8, f9, r10, m11, i12, hw⟩ := hw
  refine z_iald hX dX3_readItem_6 r10 m11 i12 ?_
  revert hw
  generalize f9 (Int32.toNatClampNeg (0 : Int32)) = v13
  intro hw
  refine z_bipush hX (v := (10 : Int32)) dX3_readItem_7 (by decide) ?_
  refine zJ_w (P := fun (j : Int32 → zS → Prop) => ∀ (p15 : Int32) (s16 : zS), j p15 s16 → zW X s16 17 [some (va_rf (some a0)), none, none] [.int p15, va_rf (some a0)]) hw (fun p15 s16 hw => ?_) (fun j17 hj17 hw => ?_)
  · refine z_iconst hX (v := (3 : Int32)) dX3_readItem_17 (by decide) ?_
    obtain ⟨a21, f22, r23, m24, hw⟩ := hw
    refine z_invV hX hd r23 (ci := 4) rfl rfl m24 dX3_readItem_18 (hC 273 _ zm273 _ _ _ _ hw) q3061 q3063 qs109 zh7 q3064 q136 zn273 rfl (Nat.le_of_ble_eq_true rfl) (st := []) rfl (zcs8 (Nat.le_of_ble_eq_true rfl)) rfl (zkV (fun s19 hw => ?_)) (zout hX hR hTb)
    refine z_aload_n hX dX3_readItem_21 rfl (i := 0) rfl ?_
    obtain ⟨a28, f29, r30, m31, hw⟩ := hw
    refine z_invV hX hd r30 (ci := 4) rfl rfl m31 dX3_readItem_22 (hC 275 _ zm275 _ _ _ _ hw) q3069 q3071 qs111 zh7 q3072 q136 zn275 rfl (Nat.le_of_ble_eq_true rfl) (st := []) rfl (zcs8 (Nat.le_of_ble_eq_true rfl)) rfl (zkV (fun s26 hw => ?_)) (zout hX hR hTb)
    refine z_aload_n hX dX3_readItem_25 rfl (i := 0) rfl ?_
    obtain ⟨a33, f34, v32, r35, m36, e37, hw⟩ := hw
    refine z_get hX zc4 (k := 33) dX3_readItem_26 (Nat.le_of_ble_eq_true rfl) (zlk hX q2502) r35 m36 e37 ?_
    refine z_if_eq hX dX3_readItem_29 (tgt := 33) rfl (fun c38 => ?_) (fun c38 => ?_)
    · have hw := hw.1 c38
      refine z_bipush hX (v := (11 : Int32)) dX3_readItem_33 (by decide) ?_
      refine z_iconst hX (v := (4 : Int32)) dX3_readItem_35 (by decide) ?_
      refine z_aload_n hX dX3_readItem_36 rfl (i := 0) rfl ?_
      obtain ⟨a40, f41, v39, r42, m43, e44, hw⟩ := hw
      refine z_get hX zc4 (k := 1) dX3_readItem_37 (Nat.le_of_ble_eq_true rfl) (zlk hX q2470) r42 m43 e44 ?_
      refine z_iconst hX (v := (0 : Int32)) dX3_readItem_40 (by decide) ?_
      obtain ⟨a45, n46, f47, r48, m49, i50, hw⟩ := hw
      refine z_iald hX dX3_readItem_41 r48 m49 i50 ?_
      revert hw
      generalize f47 (Int32.toNatClampNeg (0 : Int32)) = v51
      intro hw
      refine z_imul hX dX3_readItem_42 ?_
      refine z_iadd hX dX3_readItem_43 ?_
      refine z_istore_n hX dX3_readItem_44 rfl (i := 1) (Nat.le_of_ble_eq_true rfl) (zc_rf _) (ls2 := [some (va_rf (some a0)), some (.int ((11 : Int32) + ((4 : Int32) * v51))), none]) rfl ?_
      refine z_aload_n hX dX3_readItem_45 rfl (i := 0) rfl ?_
      obtain ⟨a54, f55, v53, r56, m57, e58, hw⟩ := hw
      refine z_get hX zc4 (k := 1) dX3_readItem_46 (Nat.le_of_ble_eq_true rfl) (zlk hX q2470) r56 m57 e58 ?_
      refine z_iload_n hX dX3_readItem_49 rfl (i := 1) rfl ?_
      refine z_iconst hX (v := (0 : Int32)) dX3_readItem_50 (by decide) ?_
      refine z_iadd hX dX3_readItem_51 ?_
      refine z_topi (fun v59 e60 => ?_)
      have hw := hw v59 e60
      refine z_aload_n hX dX3_readItem_52 rfl (i := 0) rfl ?_
      refine z_iconst hX (v := (1 : Int32)) dX3_readItem_53 (by decide) ?_
      refine z_bipush hX (v := (50 : Int32)) dX3_readItem_54 (by decide) ?_
      obtain ⟨a64, f65, r66, m67, hw⟩ := hw
      refine z_invV hX hd r66 (ci := 4) rfl rfl m67 dX3_readItem_56 (hC 276 _ zm276 _ _ _ _ hw) q3073 q3075 qs112 zh7 q3076 q136 zn276 rfl (Nat.le_of_ble_eq_true rfl) (st := [.int v59, va_rf v53]) rfl (zcs8 (Nat.le_of_ble_eq_true rfl)) rfl (zkI (fun v61 s62 hw => ?_)) (zout hX hR hTb)
      obtain ⟨a68, n69, f70, r71, g72, m73, i74, hw⟩ := hw
      refine z_iast hX dX3_readItem_59 r71 g72 m73 i74 (z_nm (fun s75 e76 => ?_))
      have hw := hw s75 e76
      refine z_iconst hX (v := (1 : Int32)) dX3_readItem_60 (by decide) ?_
      refine z_istore_n hX dX3_readItem_61 rfl (i := 2) (Nat.le_of_ble_eq_true rfl) rfl (ls2 := [some (va_rf (some a0)), some (.int ((11 : Int32) + ((4 : Int32) * v51))), some (.int (1 : Int32))]) rfl ?_
      obtain ⟨n135, hw⟩ := hw
      refine zIt_w (P := fun (j : Int32 → zS → Prop) => ∀ (p77 : Int32) (s78 : zS), j p77 s78 → zW X s78 62 [some (va_rf (some a0)), some (.int ((11 : Int32) + ((4 : Int32) * v51))), some (.int p77)] []) (fun _ _ h => h.elim) (fun rec79 hrec79 p77 s78 hw => ?_) n135 _ _ hw
      refine z_iload_n hX dX3_readItem_62 rfl (i := 2) rfl ?_
      refine z_iconst hX (v := (3 : Int32)) dX3_readItem_63 (by decide) ?_
      refine z_icmp_gt hX dX3_readItem_64 (tgt := 88) rfl (fun c80 => ?_) (fun c80 => ?_)
      · have hw := hw.1 c80
        refine z_aload_n hX dX3_readItem_88 rfl (i := 0) rfl ?_
        obtain ⟨a82, f83, v81, r84, m85, e86, hw⟩ := hw
        refine z_get hX zc4 (k := 1) dX3_readItem_89 (Nat.le_of_ble_eq_true rfl) (zlk hX q2470) r84 m85 e86 ?_
        refine z_iconst hX (v := (0 : Int32)) dX3_readItem_92 (by decide) ?_
        refine z_dup2 hX dX3_readItem_93 rfl (zc_rf _) ?_
        obtain ⟨a87, n88, f89, r90, m91, i92, hw⟩ := hw
        refine z_iald hX dX3_readItem_94 r90 m91 i92 ?_
        revert hw
        generalize f89 (Int32.toNatClampNeg (0 : Int32)) = v93
        intro hw
        refine z_iconst hX (v := (1 : Int32)) dX3_readItem_95 (by decide) ?_
        refine z_iadd hX dX3_readItem_96 ?_
        obtain ⟨a95, n96, f97, r98, g99, m100, i101, hw⟩ := hw
        refine z_iast hX dX3_readItem_97 r98 g99 m100 i101 (z_nm (fun s102 e103 => ?_))
        have hw := hw s102 e103
        refine z_aload_n hX dX3_readItem_98 rfl (i := 0) rfl ?_
        refine z_bipush hX (v := (59 : Int32)) dX3_readItem_99 (by decide) ?_
        obtain ⟨a107, f108, r109, m110, hw⟩ := hw
        refine z_invV hX hd r109 (ci := 4) rfl rfl m110 dX3_readItem_101 (hC 279 _ zm279 _ _ _ _ hw) q3092 q3094 qs115 zh7 q3095 q136 zn279 rfl (Nat.le_of_ble_eq_true rfl) (st := []) rfl (zcs8 (Nat.le_of_ble_eq_true rfl)) rfl (zkV (fun s105 hw => ?_)) (zout hX hR hTb)
        exact z_return hX hR dX3_readItem_104 hw
      · have hw := hw.2 c80
        refine z_aload_n hX dX3_readItem_67 rfl (i := 0) rfl ?_
        obtain ⟨a112, f113, v111, r114, m115, e116, hw⟩ := hw
        refine z_get hX zc4 (k := 1) dX3_readItem_68 (Nat.le_of_ble_eq_true rfl) (zlk hX q2470) r114 m115 e116 ?_
        refine z_iload_n hX dX3_readItem_71 rfl (i := 1) rfl ?_
        refine z_iload_n hX dX3_readItem_72 rfl (i := 2) rfl ?_
        refine z_iadd hX dX3_readItem_73 ?_
        refine z_aload_n hX dX3_readItem_74 rfl (i := 0) rfl ?_
        refine z_iconst hX (v := (0 : Int32)) dX3_readItem_75 (by decide) ?_
        refine z_bipush hX (v := (99 : Int32)) dX3_readItem_76 (by decide) ?_
        obtain ⟨a120, f121, r122, m123, hw⟩ := hw
        refine z_invV hX hd r122 (ci := 4) rfl rfl m123 dX3_readItem_78 (hC 276 _ zm276 _ _ _ _ hw) q3073 q3075 qs112 zh7 q3076 q136 zn276 rfl (Nat.le_of_ble_eq_true rfl) (st := [.int (((11 : Int32) + ((4 : Int32) * v51)) + p77), va_rf v111]) rfl (zcs8 (Nat.le_of_ble_eq_true rfl)) rfl (zkI (fun v117 s118 hw => ?_)) (zout hX hR hTb)
        obtain ⟨a124, n125, f126, r127, g128, m129, i130, hw⟩ := hw
        refine z_iast hX dX3_readItem_81 r127 g128 m129 i130 (z_nm (fun s131 e132 => ?_))
        have hw := hw s131 e132
        obtain ⟨v133, e134⟩ : ∃ y : Int32, y = p77 + (1 : Int32) := ⟨_, rfl⟩
        refine z_iinc hX dX3_readItem_82 (i := 2) (v := v133) rfl (by rw [e134]; rfl) (Nat.le_of_ble_eq_true rfl) rfl (ls2 := [some (va_rf (some a0)), some (.int ((11 : Int32) + ((4 : Int32) * v51))), some (.int v133)]) rfl ?_
        have hw := hw v133 e134
        refine z_goto hX dX3_readItem_85 (tgt := 62) rfl ?_
        exact hrec79 _ _ hw
    · have hw := hw.2 c38
      exact z_return hX hR dX3_readItem_32 hw
  · refine z_icmp_ge hX dX3_readItem_9 (tgt := 16) rfl (fun c136 => ?_) (fun c136 => ?_)
    · have hw := hw.1 c136
      refine z_iconst hX (v := (0 : Int32)) dX3_readItem_16 (by decide) ?_
      exact hj17 _ _ hw
    · have hw := hw.2 c136
      refine z_iconst hX (v := (1 : Int32)) dX3_readItem_12 (by decide) ?_
      refine z_goto hX dX3_readItem_13 (tgt := 17) rfl ?_
      exact hj17 _ _ hw
abbrev cX3_readListed : ByteArray := prog_28_method_129_code
def yX3_readListed : MethodName := ⟨RX3, "readListed", "(Z)V"⟩
def dkwX3_readListed_4 : List UInt8 := [46, 4, 96, 79, 177]
abbrev dktX3_readListed_4 : List UInt8 := dkwX3_readListed_4 ++ []
def dkwX3_readListed_3 : List UInt8 := [27, 42, 180, 0, 13, 27, 184, 0, 150, 46, 184, 0, 154, 28, 79, 42, 180, 0, 13, 27, 184, 0, 150, 92]
abbrev dktX3_readListed_3 : List UInt8 := dkwX3_readListed_3 ++ dktX3_readListed_4
def dkwX3_readListed_2 : List UInt8 := [182, 1, 204, 61, 167, 255, 235, 42, 16, 59, 182, 1, 201, 42, 180, 1, 152, 154, 0, 35, 42, 180, 0, 13]
abbrev dktX3_readListed_2 : List UInt8 := dkwX3_readListed_2 ++ dktX3_readListed_3
def dkwX3_readListed_1 : List UInt8 := [182, 1, 181, 3, 61, 42, 180, 1, 152, 154, 0, 20, 42, 180, 1, 143, 5, 160, 0, 12, 42, 28]
abbrev dktX3_readListed_1 : List UInt8 := dkwX3_readListed_1 ++ dktX3_readListed_2
def dkwX3_readListed_0 : List UInt8 := [42, 42, 180, 0, 13, 27, 184, 0, 150, 46, 8, 162, 0, 7, 4, 167, 0, 4, 3, 6, 182, 1, 178, 42]
abbrev dktX3_readListed_0 : List UInt8 := dkwX3_readListed_0 ++ dktX3_readListed_1
theorem dksX3_readListed_0 : cX3_readListed.data.toList.drop 0 = dktX3_readListed_0 := by decide +kernel
theorem dksX3_readListed_1 : cX3_readListed.data.toList.drop 24 = dktX3_readListed_1 := dk_seg dksX3_readListed_0 24 rfl rfl
theorem dksX3_readListed_2 : cX3_readListed.data.toList.drop 46 = dktX3_readListed_2 := dk_seg dksX3_readListed_1 22 rfl rfl
theorem dksX3_readListed_3 : cX3_readListed.data.toList.drop 70 = dktX3_readListed_3 := dk_seg dksX3_readListed_2 24 rfl rfl
theorem dksX3_readListed_4 : cX3_readListed.data.toList.drop 94 = dktX3_readListed_4 := dk_seg dksX3_readListed_3 24 rfl rfl
theorem dX3_readListed_0 : decode cX3_readListed 0 = .ok (.aload_n 0, 1) := dk_42 (dk_at dksX3_readListed_0 0 rfl rfl)
theorem dX3_readListed_1 : decode cX3_readListed 1 = .ok (.aload_n 0, 1) := dk_42 (dk_at dksX3_readListed_0 1 rfl rfl)
theorem dX3_readListed_2 : decode cX3_readListed 2 = .ok (.getfield 13, 3) := dk_180 0 13 (dk_at dksX3_readListed_0 2 rfl rfl)
theorem dX3_readListed_5 : decode cX3_readListed 5 = .ok (.iload_n 1, 1) := dk_27 (dk_at dksX3_readListed_0 5 rfl rfl)
theorem dX3_readListed_6 : decode cX3_readListed 6 = .ok (.invokestatic 150, 3) := dk_184 0 150 (dk_at dksX3_readListed_0 6 rfl rfl)
theorem dX3_readListed_9 : decode cX3_readListed 9 = .ok (.iaload, 1) := dk_46 (dk_at dksX3_readListed_0 9 rfl rfl)
theorem dX3_readListed_10 : decode cX3_readListed 10 = .ok (.iconst 5, 1) := dk_8 (dk_at dksX3_readListed_0 10 rfl rfl)
theorem dX3_readListed_11 : decode cX3_readListed 11 = .ok (.if_icmp .ge 7, 3) := dk_162 0 7 (dk_at dksX3_readListed_0 11 rfl rfl)
theorem dX3_readListed_14 : decode cX3_readListed 14 = .ok (.iconst 1, 1) := dk_4 (dk_at dksX3_readListed_0 14 rfl rfl)
theorem dX3_readListed_15 : decode cX3_readListed 15 = .ok (.goto 4, 3) := dk_167 0 4 (dk_at dksX3_readListed_0 15 rfl rfl)
theorem dX3_readListed_18 : decode cX3_readListed 18 = .ok (.iconst 0, 1) := dk_3 (dk_at dksX3_readListed_0 18 rfl rfl)
theorem dX3_readListed_19 : decode cX3_readListed 19 = .ok (.iconst 3, 1) := dk_6 (dk_at dksX3_readListed_0 19 rfl rfl)
theorem dX3_readListed_20 : decode cX3_readListed 20 = .ok (.invokevirtual 434, 3) := dk_182 1 178 (dk_at dksX3_readListed_0 20 rfl rfl)
theorem dX3_readListed_23 : decode cX3_readListed 23 = .ok (.aload_n 0, 1) := dk_42 (dk_at dksX3_readListed_0 23 rfl rfl)
theorem dX3_readListed_24 : decode cX3_readListed 24 = .ok (.invokevirtual 437, 3) := dk_182 1 181 (dk_at dksX3_readListed_1 0 rfl rfl)
theorem dX3_readListed_27 : decode cX3_readListed 27 = .ok (.iconst 0, 1) := dk_3 (dk_at dksX3_readListed_1 3 rfl rfl)
theorem dX3_readListed_28 : decode cX3_readListed 28 = .ok (.istore_n 2, 1) := dk_61 (dk_at dksX3_readListed_1 4 rfl rfl)
theorem dX3_readListed_29 : decode cX3_readListed 29 = .ok (.aload_n 0, 1) := dk_42 (dk_at dksX3_readListed_1 5 rfl rfl)
theorem dX3_readListed_30 : decode cX3_readListed 30 = .ok (.getfield 408, 3) := dk_180 1 152 (dk_at dksX3_readListed_1 6 rfl rfl)
theorem dX3_readListed_33 : decode cX3_readListed 33 = .ok (.ifCond .ne 20, 3) := dk_154 0 20 (dk_at dksX3_readListed_1 9 rfl rfl)
theorem dX3_readListed_36 : decode cX3_readListed 36 = .ok (.aload_n 0, 1) := dk_42 (dk_at dksX3_readListed_1 12 rfl rfl)
theorem dX3_readListed_37 : decode cX3_readListed 37 = .ok (.getfield 399, 3) := dk_180 1 143 (dk_at dksX3_readListed_1 13 rfl rfl)
theorem dX3_readListed_40 : decode cX3_readListed 40 = .ok (.iconst 2, 1) := dk_5 (dk_at dksX3_readListed_1 16 rfl rfl)
theorem dX3_readListed_41 : decode cX3_readListed 41 = .ok (.if_icmp .ne 12, 3) := dk_160 0 12 (dk_at dksX3_readListed_1 17 rfl rfl)
theorem dX3_readListed_44 : decode cX3_readListed 44 = .ok (.aload_n 0, 1) := dk_42 (dk_at dksX3_readListed_1 20 rfl rfl)
theorem dX3_readListed_45 : decode cX3_readListed 45 = .ok (.iload_n 2, 1) := dk_28 (dk_at dksX3_readListed_1 21 rfl rfl)
theorem dX3_readListed_46 : decode cX3_readListed 46 = .ok (.invokevirtual 460, 3) := dk_182 1 204 (dk_at dksX3_readListed_2 0 rfl rfl)
theorem dX3_readListed_49 : decode cX3_readListed 49 = .ok (.istore_n 2, 1) := dk_61 (dk_at dksX3_readListed_2 3 rfl rfl)
theorem dX3_readListed_50 : decode cX3_readListed 50 = .ok (.goto (-21), 3) := dk_167 255 235 (dk_at dksX3_readListed_2 4 rfl rfl)
theorem dX3_readListed_53 : decode cX3_readListed 53 = .ok (.aload_n 0, 1) := dk_42 (dk_at dksX3_readListed_2 7 rfl rfl)
theorem dX3_readListed_54 : decode cX3_readListed 54 = .ok (.bipush 59, 2) := dk_16 59 (dk_at dksX3_readListed_2 8 rfl rfl)
theorem dX3_readListed_56 : decode cX3_readListed 56 = .ok (.invokevirtual 457, 3) := dk_182 1 201 (dk_at dksX3_readListed_2 10 rfl rfl)
theorem dX3_readListed_59 : decode cX3_readListed 59 = .ok (.aload_n 0, 1) := dk_42 (dk_at dksX3_readListed_2 13 rfl rfl)
theorem dX3_readListed_60 : decode cX3_readListed 60 = .ok (.getfield 408, 3) := dk_180 1 152 (dk_at dksX3_readListed_2 14 rfl rfl)
theorem dX3_readListed_63 : decode cX3_readListed 63 = .ok (.ifCond .ne 35, 3) := dk_154 0 35 (dk_at dksX3_readListed_2 17 rfl rfl)
theorem dX3_readListed_66 : decode cX3_readListed 66 = .ok (.aload_n 0, 1) := dk_42 (dk_at dksX3_readListed_2 20 rfl rfl)
theorem dX3_readListed_67 : decode cX3_readListed 67 = .ok (.getfield 13, 3) := dk_180 0 13 (dk_at dksX3_readListed_2 21 rfl rfl)
theorem dX3_readListed_70 : decode cX3_readListed 70 = .ok (.iload_n 1, 1) := dk_27 (dk_at dksX3_readListed_3 0 rfl rfl)
theorem dX3_readListed_71 : decode cX3_readListed 71 = .ok (.aload_n 0, 1) := dk_42 (dk_at dksX3_readListed_3 1 rfl rfl)
theorem dX3_readListed_72 : decode cX3_readListed 72 = .ok (.getfield 13, 3) := dk_180 0 13 (dk_at dksX3_readListed_3 2 rfl rfl)
theorem dX3_readListed_75 : decode cX3_readListed 75 = .ok (.iload_n 1, 1) := dk_27 (dk_at dksX3_readListed_3 5 rfl rfl)
theorem dX3_readListed_76 : decode cX3_readListed 76 = .ok (.invokestatic 150, 3) := dk_184 0 150 (dk_at dksX3_readListed_3 6 rfl rfl)
theorem dX3_readListed_79 : decode cX3_readListed 79 = .ok (.iaload, 1) := dk_46 (dk_at dksX3_readListed_3 9 rfl rfl)
theorem dX3_readListed_80 : decode cX3_readListed 80 = .ok (.invokestatic 154, 3) := dk_184 0 154 (dk_at dksX3_readListed_3 10 rfl rfl)
theorem dX3_readListed_83 : decode cX3_readListed 83 = .ok (.iload_n 2, 1) := dk_28 (dk_at dksX3_readListed_3 13 rfl rfl)
theorem dX3_readListed_84 : decode cX3_readListed 84 = .ok (.iastore, 1) := dk_79 (dk_at dksX3_readListed_3 14 rfl rfl)
theorem dX3_readListed_85 : decode cX3_readListed 85 = .ok (.aload_n 0, 1) := dk_42 (dk_at dksX3_readListed_3 15 rfl rfl)
theorem dX3_readListed_86 : decode cX3_readListed 86 = .ok (.getfield 13, 3) := dk_180 0 13 (dk_at dksX3_readListed_3 16 rfl rfl)
theorem dX3_readListed_89 : decode cX3_readListed 89 = .ok (.iload_n 1, 1) := dk_27 (dk_at dksX3_readListed_3 19 rfl rfl)
theorem dX3_readListed_90 : decode cX3_readListed 90 = .ok (.invokestatic 150, 3) := dk_184 0 150 (dk_at dksX3_readListed_3 20 rfl rfl)
theorem dX3_readListed_93 : decode cX3_readListed 93 = .ok (.dup2, 1) := dk_92 (dk_at dksX3_readListed_3 23 rfl rfl)
theorem dX3_readListed_94 : decode cX3_readListed 94 = .ok (.iaload, 1) := dk_46 (dk_at dksX3_readListed_4 0 rfl rfl)
theorem dX3_readListed_95 : decode cX3_readListed 95 = .ok (.iconst 1, 1) := dk_4 (dk_at dksX3_readListed_4 1 rfl rfl)
theorem dX3_readListed_96 : decode cX3_readListed 96 = .ok (.iadd, 1) := dk_96 (dk_at dksX3_readListed_4 2 rfl rfl)
theorem dX3_readListed_97 : decode cX3_readListed 97 = .ok (.iastore, 1) := dk_79 (dk_at dksX3_readListed_4 3 rfl rfl)
theorem dX3_readListed_98 : decode cX3_readListed 98 = .ok (.return_, 1) := dk_177 (dk_at dksX3_readListed_4 4 rfl rfl)
/-- PackingDuelModel.readListed(Z)V -/
def zb282 (G : zPg) (C : zO) (args : List Value) (Q : zQ) (Y : zY) (σ : zS) : Prop := ∃ (a0 : Nat) (x1 : Int32), args = [.ref a0, .int x1] ∧ (zgR σ (some a0) 4 1 (fun v1 => zcl C 190 [.int x1] Y σ (zqI (fun v7 s8 => zaI s8 0 v1 v7 (fun v16 => zJ (fun (p18 : Int32) (s19 : zS) => zrc s19 (some a0) 4 (fun a24 => zcl C 273 [.ref a24, .int p18, .int (3 : Int32)] Y s19 (zqV (fun s22 => zrc s22 (some a0) 4 (fun a31 => zcl C 275 [.ref a31] Y s22 (zqV (fun s29 => ∃ n, zIt (fun _ _ => False) (fun rec37 (p35 : Int32) (s36 : zS) => zgI s36 (some a0) 4 33 (fun v38 => zJ (fun  (s44 : zS) => zrc s44 (some a0) 4 (fun a49 => zcl C 279 [.ref a49, .int (59 : Int32)] Y s44 (zqV (fun s47 => zgI s47 (some a0) 4 33 (fun v53 => zJ (fun  (s59 : zS) => Q none s59) (fun (j60 : zS → Prop) => ((¬ v53 = 0) → j60 s47) ∧ ((v53 = 0) → zgR s47 (some a0) 4 1 (fun v62 => zgR s47 (some a0) 4 1 (fun v68 => zcl C 190 [.int x1] Y s47 (zqI (fun v74 s75 => zaI s75 0 v68 v74 (fun v83 => zcl C 192 [.int x1, .int v83] Y s75 (zqI (fun v85 s86 => zsI s86 G.1 0 v62 v85 p35 (fun s95 => zgR s95 (some a0) 4 1 (fun v97 => zcl C 190 [.int x1] Y s95 (zqI (fun v103 s104 => zaI s104 0 v97 v103 (fun v112 => zsI s104 G.1 0 v97 v103 (v112 + (1 : Int32)) (fun s121 => j60 s121)))))))))))))))))))) (fun (j45 : zS → Prop) => ((¬ v38 = 0) → j45 s36) ∧ ((v38 = 0) → zgI s36 (some a0) 4 32 (fun v124 => ((¬ v124 = (2 : Int32)) → j45 s36) ∧ ((v124 = (2 : Int32)) → zrc s36 (some a0) 4 (fun a134 => zcl C 283 [.ref a134, .int p35] Y s36 (zqI (fun v131 s132 => rec37 v131 s132))))))))) n (0 : Int32) s29))))))) (fun (j20 : Int32 → zS → Prop) => (((5 : Int32) ≤ v16) → j20 (0 : Int32) s8) ∧ ((¬ (5 : Int32) ≤ v16) → j20 (1 : Int32) s8)))))))
set_option maxHeartbeats 4000000 in
theorem wk282 {l : Launch} {g : zG} {d : Nat} {C : zO} (hG : zGk g) (hC : zSound l g d C) {args : List Value} {Q : zQ} {Y : zY} {σ : zS} (hw : zb282 (zpg g) C args Q Y σ) : zMet l g (d + 1) (⟨"PackingDuelModel", "readListed", "(Z)V"⟩, Cond.code ⟨"PackingDuelModel", "readListed", "(Z)V"⟩ prog_28_method_129_code 3 (Option.none : Option FieldType)) args σ Q Y := by
  obtain ⟨a0, x1, rfl, hw⟩ := hw
  refine zof hG (by decide +kernel) [false, false] ⟨rfl, rfl, trivial⟩ (Nat.le_of_ble_eq_true rfl) (ls := [some (va_rf (some a0)), some (.int x1), none]) rfl ?_
  intro X hX hR hTb hd1 hd2 hl hg hnm
  subst hl
  subst hg
  have hd : zDep X d := ⟨hd1, hd2⟩
  refine z_aload_n hX dX3_readListed_0 rfl (i := 0) rfl ?_
  refine z_aload_n hX dX3_readListed_1 rfl (i := 0) rfl ?_
  obtain ⟨a2, f3, v1, r4, m5, e6, hw⟩ := hw
  refine z_get hX zc4 (k := 1) dX3_readListed_2 (Nat.le_of_ble_eq_true rfl) (zlk hX q2470) r4 m5 e6 ?_
  refine z_iload_n hX dX3_readListed_5 rfl (i := 1) rfl ?_
  refine z_invS hX hd dX3_readListed_6 (hC 190 _ zm190 _ _ _ _ hw) q2727 q2728 zh7 q2729 q136 zn190 rfl (Nat.le_of_ble_eq_true rfl) (st := [va_rf v1, va_rf (some a0)]) rfl (zcs8 (Nat.le_of_ble_eq_true rfl)) rfl (zkI (fun v7 s8 hw => ?_)) (zout hX hR hTb)
  obtain ⟨a10, n11, f12, r13, m14, i15, hw⟩ := hw
  refine z_iald hX dX3_readListed_9 r13 m14 i15 ?_
  revert hw
  generalize f12 (Int32.toNatClampNeg v7) = v16
  intro hw
  refine z_iconst hX (v := (5 : Int32)) dX3_readListed_10 (by decide) ?_
  refine zJ_w (P := fun (j : Int32 → zS → Prop) => ∀ (p18 : Int32) (s19 : zS), j p18 s19 → zW X s19 19 [some (va_rf (some a0)), some (.int x1), none] [.int p18, va_rf (some a0)]) hw (fun p18 s19 hw => ?_) (fun j20 hj20 hw => ?_)
  · refine z_iconst hX (v := (3 : Int32)) dX3_readListed_19 (by decide) ?_
    obtain ⟨a24, f25, r26, m27, hw⟩ := hw
    refine z_invV hX hd r26 (ci := 4) rfl rfl m27 dX3_readListed_20 (hC 273 _ zm273 _ _ _ _ hw) q3061 q3063 qs109 zh7 q3064 q136 zn273 rfl (Nat.le_of_ble_eq_true rfl) (st := []) rfl (zcs8 (Nat.le_of_ble_eq_true rfl)) rfl (zkV (fun s22 hw => ?_)) (zout hX hR hTb)
    refine z_aload_n hX dX3_readListed_23 rfl (i := 0) rfl ?_
    obtain ⟨a31, f32, r33, m34, hw⟩ := hw
    refine z_invV hX hd r33 (ci := 4) rfl rfl m34 dX3_readListed_24 (hC 275 _ zm275 _ _ _ _ hw) q3069 q3071 qs111 zh7 q3072 q136 zn275 rfl (Nat.le_of_ble_eq_true rfl) (st := []) rfl (zcs8 (Nat.le_of_ble_eq_true rfl)) rfl (zkV (fun s29 hw => ?_)) (zout hX hR hTb)
    refine z_iconst hX (v := (0 : Int32)) dX3_readListed_27 (by decide) ?_
    refine z_istore_n hX dX3_readListed_28 rfl (i := 2) (Nat.le_of_ble_eq_true rfl) rfl (ls2 := [some (va_rf (some a0)), some (.int x1), some (.int (0 : Int32))]) rfl ?_
    obtain ⟨n138, hw⟩ := hw
    refine zIt_w (P := fun (j : Int32 → zS → Prop) => ∀ (p35 : Int32) (s36 : zS), j p35 s36 → zW X s36 29 [some (va_rf (some a0)), some (.int x1), some (.int p35)] []) (fun _ _ h => h.elim) (fun rec37 hrec37 p35 s36 hw => ?_) n138 _ _ hw
    refine z_aload_n hX dX3_readListed_29 rfl (i := 0) rfl ?_
    obtain ⟨a39, f40, v38, r41, m42, e43, hw⟩ := hw
    refine z_get hX zc4 (k := 33) dX3_readListed_30 (Nat.le_of_ble_eq_true rfl) (zlk hX q2502) r41 m42 e43 ?_
    refine zJ_w (P := fun (j : zS → Prop) => ∀  (s44 : zS), j  s44 → zW X s44 53 [some (va_rf (some a0)), some (.int x1), some (.int p35)] []) hw (fun  s44 hw => ?_) (fun j45 hj45 hw => ?_)
    · refine z_aload_n hX dX3_readListed_53 rfl (i := 0) rfl ?_
      refine z_bipush hX (v := (59 : Int32)) dX3_readListed_54 (by decide) ?_
      obtain ⟨a49, f50, r51, m52, hw⟩ := hw
      refine z_invV hX hd r51 (ci := 4) rfl rfl m52 dX3_readListed_56 (hC 279 _ zm279 _ _ _ _ hw) q3092 q3094 qs115 zh7 q3095 q136 zn279 rfl (Nat.le_of_ble_eq_true rfl) (st := []) rfl (zcs8 (Nat.le_of_ble_eq_true rfl)) rfl (zkV (fun s47 hw => ?_)) (zout hX hR hTb)
      refine z_aload_n hX dX3_readListed_59 rfl (i := 0) rfl ?_
      obtain ⟨a54, f55, v53, r56, m57, e58, hw⟩ := hw
      refine z_get hX zc4 (k := 33) dX3_readListed_60 (Nat.le_of_ble_eq_true rfl) (zlk hX q2502) r56 m57 e58 ?_
      refine zJ_w (P := fun (j : zS → Prop) => ∀  (s59 : zS), j  s59 → zW X s59 98 [none, none, none] []) hw (fun  s59 hw => ?_) (fun j60 hj60 hw => ?_)
      · exact z_return hX hR dX3_readListed_98 hw
      · refine z_if_ne hX dX3_readListed_63 (tgt := 98) rfl (fun c61 => ?_) (fun c61 => ?_)
        · have hw := hw.1 c61
          refine z_sub (ls' := [none, none, none]) (zsN (zsN (zsN (zs0)))) ?_
          exact hj60  _ hw
        · have hw := hw.2 c61
          refine z_aload_n hX dX3_readListed_66 rfl (i := 0) rfl ?_
          obtain ⟨a63, f64, v62, r65, m66, e67, hw⟩ := hw
          refine z_get hX zc4 (k := 1) dX3_readListed_67 (Nat.le_of_ble_eq_true rfl) (zlk hX q2470) r65 m66 e67 ?_
          refine z_iload_n hX dX3_readListed_70 rfl (i := 1) rfl ?_
          refine z_aload_n hX dX3_readListed_71 rfl (i := 0) rfl ?_
          obtain ⟨a69, f70, v68, r71, m72, e73, hw⟩ := hw
          refine z_get hX zc4 (k := 1) dX3_readListed_72 (Nat.le_of_ble_eq_true rfl) (zlk hX q2470) r71 m72 e73 ?_
          refine z_iload_n hX dX3_readListed_75 rfl (i := 1) rfl ?_
          refine z_invS hX hd dX3_readListed_76 (hC 190 _ zm190 _ _ _ _ hw) q2727 q2728 zh7 q2729 q136 zn190 rfl (Nat.le_of_ble_eq_true rfl) (st := [va_rf v68, .int x1, va_rf v62]) rfl (zcs8 (Nat.le_of_ble_eq_true rfl)) rfl (zkI (fun v74 s75 hw => ?_)) (zout hX hR hTb)
          obtain ⟨a77, n78, f79, r80, m81, i82, hw⟩ := hw
          refine z_iald hX dX3_readListed_79 r80 m81 i82 ?_
          revert hw
          generalize f79 (Int32.toNatClampNeg v74) = v83
          intro hw
          refine z_invS hX hd dX3_readListed_80 (hC 192 _ zm192 _ _ _ _ hw) q2734 q2735 zh7 q2736 q136 zn192 rfl (Nat.le_of_ble_eq_true rfl) (st := [va_rf v62]) rfl (zcs8 (Nat.le_of_ble_eq_true rfl)) rfl (zkI (fun v85 s86 hw => ?_)) (zout hX hR hTb)
          refine z_iload_n hX dX3_readListed_83 rfl (i := 2) rfl ?_
          obtain ⟨a88, n89, f90, r91, g92, m93, i94, hw⟩ := hw
          refine z_iast hX dX3_readListed_84 r91 g92 m93 i94 (z_nm (fun s95 e96 => ?_))
          have hw := hw s95 e96
          refine z_aload_n hX dX3_readListed_85 rfl (i := 0) rfl ?_
          obtain ⟨a98, f99, v97, r100, m101, e102, hw⟩ := hw
          refine z_get hX zc4 (k := 1) dX3_readListed_86 (Nat.le_of_ble_eq_true rfl) (zlk hX q2470) r100 m101 e102 ?_
          refine z_iload_n hX dX3_readListed_89 rfl (i := 1) rfl ?_
          refine z_invS hX hd dX3_readListed_90 (hC 190 _ zm190 _ _ _ _ hw) q2727 q2728 zh7 q2729 q136 zn190 rfl (Nat.le_of_ble_eq_true rfl) (st := [va_rf v97]) rfl (zcs8 (Nat.le_of_ble_eq_true rfl)) rfl (zkI (fun v103 s104 hw => ?_)) (zout hX hR hTb)
          refine z_dup2 hX dX3_readListed_93 rfl (zc_rf _) ?_
          obtain ⟨a106, n107, f108, r109, m110, i111, hw⟩ := hw
          refine z_iald hX dX3_readListed_94 r109 m110 i111 ?_
          revert hw
          generalize f108 (Int32.toNatClampNeg v103) = v112
          intro hw
          refine z_iconst hX (v := (1 : Int32)) dX3_readListed_95 (by decide) ?_
          refine z_iadd hX dX3_readListed_96 ?_
          obtain ⟨a114, n115, f116, r117, g118, m119, i120, hw⟩ := hw
          refine z_iast hX dX3_readListed_97 r117 g118 m119 i120 (z_nm (fun s121 e122 => ?_))
          have hw := hw s121 e122
          refine z_sub (ls' := [none, none, none]) (zsN (zsN (zsN (zs0)))) ?_
          exact hj60  _ hw
    · refine z_if_ne hX dX3_readListed_33 (tgt := 53) rfl (fun c123 => ?_) (fun c123 => ?_)
      · have hw := hw.1 c123
        exact hj45  _ hw
      · have hw := hw.2 c123
        refine z_aload_n hX dX3_readListed_36 rfl (i := 0) rfl ?_
        obtain ⟨a125, f126, v124, r127, m128, e129, hw⟩ := hw
        refine z_get hX zc4 (k := 32) dX3_readListed_37 (Nat.le_of_ble_eq_true rfl) (zlk hX q2501) r127 m128 e129 ?_
        refine z_iconst hX (v := (2 : Int32)) dX3_readListed_40 (by decide) ?_
        refine z_icmp_ne hX dX3_readListed_41 (tgt := 53) rfl (fun c130 => ?_) (fun c130 => ?_)
        · have hw := hw.1 c130
          exact hj45  _ hw
        · have hw := hw.2 c130
          refine z_aload_n hX dX3_readListed_44 rfl (i := 0) rfl ?_
          refine z_iload_n hX dX3_readListed_45 rfl (i := 2) rfl ?_
          obtain ⟨a134, f135, r136, m137, hw⟩ := hw
          refine z_invV hX hd r136 (ci := 4) rfl rfl m137 dX3_readListed_46 (hC 283 _ zm283 _ _ _ _ hw) q3111 q3113 qs119 zh7 q3114 q136 zn283 rfl (Nat.le_of_ble_eq_true rfl) (st := []) rfl (zcs8 (Nat.le_of_ble_eq_true rfl)) rfl (zkI (fun v131 s132 hw => ?_)) (zout hX hR hTb)
          refine z_istore_n hX dX3_readListed_49 rfl (i := 2) (Nat.le_of_ble_eq_true rfl) rfl (ls2 := [some (va_rf (some a0)), some (.int x1), some (.int v131)]) rfl ?_
          refine z_goto hX dX3_readListed_50 (tgt := 29) rfl ?_
          exact hrec37 _ _ hw
  · refine z_icmp_ge hX dX3_readListed_11 (tgt := 18) rfl (fun c139 => ?_) (fun c139 => ?_)
    · have hw := hw.1 c139
      refine z_iconst hX (v := (0 : Int32)) dX3_readListed_18 (by decide) ?_
      exact hj20 _ _ hw
    · have hw := hw.2 c139
      refine z_iconst hX (v := (1 : Int32)) dX3_readListed_14 (by decide) ?_
      refine z_goto hX dX3_readListed_15 (tgt := 19) rfl ?_
      exact hj20 _ _ hw
abbrev cX3_readMember : ByteArray := prog_28_method_128_code
def yX3_readMember : MethodName := ⟨RX3, "readMember", "(I)I"⟩
def dkwX3_readMember_4 : List UInt8 := [167, 0, 4, 3, 8, 182, 1, 178, 42, 182, 1, 181, 27, 28, 128, 172]
abbrev dktX3_readMember_4 : List UInt8 := dkwX3_readMember_4 ++ []
def dkwX3_readMember_3 : List UInt8 := [154, 0, 23, 42, 180, 0, 13, 27, 28, 128, 3, 184, 0, 113, 42, 180, 0, 13, 4, 46, 163, 0, 7, 4]
abbrev dktX3_readMember_3 : List UInt8 := dkwX3_readMember_3 ++ dktX3_readMember_4
def dkwX3_readMember_2 : List UInt8 := [154, 0, 9, 27, 28, 126, 154, 0, 7, 4, 167, 0, 4, 3, 7, 182, 1, 178, 42, 42, 180, 1, 152]
abbrev dktX3_readMember_2 : List UInt8 := dkwX3_readMember_2 ++ dktX3_readMember_3
def dkwX3_readMember_1 : List UInt8 := [180, 1, 152, 154, 0, 12, 4, 42, 182, 1, 196, 120, 167, 0, 4, 3, 61, 42, 42, 180, 1, 152]
abbrev dktX3_readMember_1 : List UInt8 := dkwX3_readMember_1 ++ dktX3_readMember_2
def dkwX3_readMember_0 : List UInt8 := [42, 42, 182, 1, 196, 3, 42, 180, 0, 13, 3, 46, 4, 100, 184, 0, 109, 5, 182, 1, 178, 42]
abbrev dktX3_readMember_0 : List UInt8 := dkwX3_readMember_0 ++ dktX3_readMember_1
theorem dksX3_readMember_0 : cX3_readMember.data.toList.drop 0 = dktX3_readMember_0 := by decide +kernel
theorem dksX3_readMember_1 : cX3_readMember.data.toList.drop 22 = dktX3_readMember_1 := dk_seg dksX3_readMember_0 22 rfl rfl
theorem dksX3_readMember_2 : cX3_readMember.data.toList.drop 44 = dktX3_readMember_2 := dk_seg dksX3_readMember_1 22 rfl rfl
theorem dksX3_readMember_3 : cX3_readMember.data.toList.drop 67 = dktX3_readMember_3 := dk_seg dksX3_readMember_2 23 rfl rfl
theorem dksX3_readMember_4 : cX3_readMember.data.toList.drop 91 = dktX3_readMember_4 := dk_seg dksX3_readMember_3 24 rfl rfl
theorem dX3_readMember_0 : decode cX3_readMember 0 = .ok (.aload_n 0, 1) := dk_42 (dk_at dksX3_readMember_0 0 rfl rfl)
theorem dX3_readMember_1 : decode cX3_readMember 1 = .ok (.aload_n 0, 1) := dk_42 (dk_at dksX3_readMember_0 1 rfl rfl)
theorem dX3_readMember_2 : decode cX3_readMember 2 = .ok (.invokevirtual 452, 3) := dk_182 1 196 (dk_at dksX3_readMember_0 2 rfl rfl)
theorem dX3_readMember_5 : decode cX3_readMember 5 = .ok (.iconst 0, 1) := dk_3 (dk_at dksX3_readMember_0 5 rfl rfl)
theorem dX3_readMember_6 : decode cX3_readMember 6 = .ok (.aload_n 0, 1) := dk_42 (dk_at dksX3_readMember_0 6 rfl rfl)
theorem dX3_readMember_7 : decode cX3_readMember 7 = .ok (.getfield 13, 3) := dk_180 0 13 (dk_at dksX3_readMember_0 7 rfl rfl)
theorem dX3_readMember_10 : decode cX3_readMember 10 = .ok (.iconst 0, 1) := dk_3 (dk_at dksX3_readMember_0 10 rfl rfl)
theorem dX3_readMember_11 : decode cX3_readMember 11 = .ok (.iaload, 1) := dk_46 (dk_at dksX3_readMember_0 11 rfl rfl)
theorem dX3_readMember_12 : decode cX3_readMember 12 = .ok (.iconst 1, 1) := dk_4 (dk_at dksX3_readMember_0 12 rfl rfl)
theorem dX3_readMember_13 : decode cX3_readMember 13 = .ok (.isub, 1) := dk_100 (dk_at dksX3_readMember_0 13 rfl rfl)
theorem dX3_readMember_14 : decode cX3_readMember 14 = .ok (.invokestatic 109, 3) := dk_184 0 109 (dk_at dksX3_readMember_0 14 rfl rfl)
theorem dX3_readMember_17 : decode cX3_readMember 17 = .ok (.iconst 2, 1) := dk_5 (dk_at dksX3_readMember_0 17 rfl rfl)
theorem dX3_readMember_18 : decode cX3_readMember 18 = .ok (.invokevirtual 434, 3) := dk_182 1 178 (dk_at dksX3_readMember_0 18 rfl rfl)
theorem dX3_readMember_21 : decode cX3_readMember 21 = .ok (.aload_n 0, 1) := dk_42 (dk_at dksX3_readMember_0 21 rfl rfl)
theorem dX3_readMember_22 : decode cX3_readMember 22 = .ok (.getfield 408, 3) := dk_180 1 152 (dk_at dksX3_readMember_1 0 rfl rfl)
theorem dX3_readMember_25 : decode cX3_readMember 25 = .ok (.ifCond .ne 12, 3) := dk_154 0 12 (dk_at dksX3_readMember_1 3 rfl rfl)
theorem dX3_readMember_28 : decode cX3_readMember 28 = .ok (.iconst 1, 1) := dk_4 (dk_at dksX3_readMember_1 6 rfl rfl)
theorem dX3_readMember_29 : decode cX3_readMember 29 = .ok (.aload_n 0, 1) := dk_42 (dk_at dksX3_readMember_1 7 rfl rfl)
theorem dX3_readMember_30 : decode cX3_readMember 30 = .ok (.invokevirtual 452, 3) := dk_182 1 196 (dk_at dksX3_readMember_1 8 rfl rfl)
theorem dX3_readMember_33 : decode cX3_readMember 33 = .ok (.ishl, 1) := dk_120 (dk_at dksX3_readMember_1 11 rfl rfl)
theorem dX3_readMember_34 : decode cX3_readMember 34 = .ok (.goto 4, 3) := dk_167 0 4 (dk_at dksX3_readMember_1 12 rfl rfl)
theorem dX3_readMember_37 : decode cX3_readMember 37 = .ok (.iconst 0, 1) := dk_3 (dk_at dksX3_readMember_1 15 rfl rfl)
theorem dX3_readMember_38 : decode cX3_readMember 38 = .ok (.istore_n 2, 1) := dk_61 (dk_at dksX3_readMember_1 16 rfl rfl)
theorem dX3_readMember_39 : decode cX3_readMember 39 = .ok (.aload_n 0, 1) := dk_42 (dk_at dksX3_readMember_1 17 rfl rfl)
theorem dX3_readMember_40 : decode cX3_readMember 40 = .ok (.aload_n 0, 1) := dk_42 (dk_at dksX3_readMember_1 18 rfl rfl)
theorem dX3_readMember_41 : decode cX3_readMember 41 = .ok (.getfield 408, 3) := dk_180 1 152 (dk_at dksX3_readMember_1 19 rfl rfl)
theorem dX3_readMember_44 : decode cX3_readMember 44 = .ok (.ifCond .ne 9, 3) := dk_154 0 9 (dk_at dksX3_readMember_2 0 rfl rfl)
theorem dX3_readMember_47 : decode cX3_readMember 47 = .ok (.iload_n 1, 1) := dk_27 (dk_at dksX3_readMember_2 3 rfl rfl)
theorem dX3_readMember_48 : decode cX3_readMember 48 = .ok (.iload_n 2, 1) := dk_28 (dk_at dksX3_readMember_2 4 rfl rfl)
theorem dX3_readMember_49 : decode cX3_readMember 49 = .ok (.iand, 1) := dk_126 (dk_at dksX3_readMember_2 5 rfl rfl)
theorem dX3_readMember_50 : decode cX3_readMember 50 = .ok (.ifCond .ne 7, 3) := dk_154 0 7 (dk_at dksX3_readMember_2 6 rfl rfl)
theorem dX3_readMember_53 : decode cX3_readMember 53 = .ok (.iconst 1, 1) := dk_4 (dk_at dksX3_readMember_2 9 rfl rfl)
theorem dX3_readMember_54 : decode cX3_readMember 54 = .ok (.goto 4, 3) := dk_167 0 4 (dk_at dksX3_readMember_2 10 rfl rfl)
theorem dX3_readMember_57 : decode cX3_readMember 57 = .ok (.iconst 0, 1) := dk_3 (dk_at dksX3_readMember_2 13 rfl rfl)
theorem dX3_readMember_58 : decode cX3_readMember 58 = .ok (.iconst 4, 1) := dk_7 (dk_at dksX3_readMember_2 14 rfl rfl)
theorem dX3_readMember_59 : decode cX3_readMember 59 = .ok (.invokevirtual 434, 3) := dk_182 1 178 (dk_at dksX3_readMember_2 15 rfl rfl)
theorem dX3_readMember_62 : decode cX3_readMember 62 = .ok (.aload_n 0, 1) := dk_42 (dk_at dksX3_readMember_2 18 rfl rfl)
theorem dX3_readMember_63 : decode cX3_readMember 63 = .ok (.aload_n 0, 1) := dk_42 (dk_at dksX3_readMember_2 19 rfl rfl)
theorem dX3_readMember_64 : decode cX3_readMember 64 = .ok (.getfield 408, 3) := dk_180 1 152 (dk_at dksX3_readMember_2 20 rfl rfl)
theorem dX3_readMember_67 : decode cX3_readMember 67 = .ok (.ifCond .ne 23, 3) := dk_154 0 23 (dk_at dksX3_readMember_3 0 rfl rfl)
theorem dX3_readMember_70 : decode cX3_readMember 70 = .ok (.aload_n 0, 1) := dk_42 (dk_at dksX3_readMember_3 3 rfl rfl)
theorem dX3_readMember_71 : decode cX3_readMember 71 = .ok (.getfield 13, 3) := dk_180 0 13 (dk_at dksX3_readMember_3 4 rfl rfl)
theorem dX3_readMember_74 : decode cX3_readMember 74 = .ok (.iload_n 1, 1) := dk_27 (dk_at dksX3_readMember_3 7 rfl rfl)
theorem dX3_readMember_75 : decode cX3_readMember 75 = .ok (.iload_n 2, 1) := dk_28 (dk_at dksX3_readMember_3 8 rfl rfl)
theorem dX3_readMember_76 : decode cX3_readMember 76 = .ok (.ior, 1) := dk_128 (dk_at dksX3_readMember_3 9 rfl rfl)
theorem dX3_readMember_77 : decode cX3_readMember 77 = .ok (.iconst 0, 1) := dk_3 (dk_at dksX3_readMember_3 10 rfl rfl)
theorem dX3_readMember_78 : decode cX3_readMember 78 = .ok (.invokestatic 113, 3) := dk_184 0 113 (dk_at dksX3_readMember_3 11 rfl rfl)
theorem dX3_readMember_81 : decode cX3_readMember 81 = .ok (.aload_n 0, 1) := dk_42 (dk_at dksX3_readMember_3 14 rfl rfl)
theorem dX3_readMember_82 : decode cX3_readMember 82 = .ok (.getfield 13, 3) := dk_180 0 13 (dk_at dksX3_readMember_3 15 rfl rfl)
theorem dX3_readMember_85 : decode cX3_readMember 85 = .ok (.iconst 1, 1) := dk_4 (dk_at dksX3_readMember_3 18 rfl rfl)
theorem dX3_readMember_86 : decode cX3_readMember 86 = .ok (.iaload, 1) := dk_46 (dk_at dksX3_readMember_3 19 rfl rfl)
theorem dX3_readMember_87 : decode cX3_readMember 87 = .ok (.if_icmp .gt 7, 3) := dk_163 0 7 (dk_at dksX3_readMember_3 20 rfl rfl)
theorem dX3_readMember_90 : decode cX3_readMember 90 = .ok (.iconst 1, 1) := dk_4 (dk_at dksX3_readMember_3 23 rfl rfl)
theorem dX3_readMember_91 : decode cX3_readMember 91 = .ok (.goto 4, 3) := dk_167 0 4 (dk_at dksX3_readMember_4 0 rfl rfl)
theorem dX3_readMember_94 : decode cX3_readMember 94 = .ok (.iconst 0, 1) := dk_3 (dk_at dksX3_readMember_4 3 rfl rfl)
theorem dX3_readMember_95 : decode cX3_readMember 95 = .ok (.iconst 5, 1) := dk_8 (dk_at dksX3_readMember_4 4 rfl rfl)
theorem dX3_readMember_96 : decode cX3_readMember 96 = .ok (.invokevirtual 434, 3) := dk_182 1 178 (dk_at dksX3_readMember_4 5 rfl rfl)
theorem dX3_readMember_99 : decode cX3_readMember 99 = .ok (.aload_n 0, 1) := dk_42 (dk_at dksX3_readMember_4 8 rfl rfl)
theorem dX3_readMember_100 : decode cX3_readMember 100 = .ok (.invokevirtual 437, 3) := dk_182 1 181 (dk_at dksX3_readMember_4 9 rfl rfl)
theorem dX3_readMember_103 : decode cX3_readMember 103 = .ok (.iload_n 1, 1) := dk_27 (dk_at dksX3_readMember_4 12 rfl rfl)
theorem dX3_readMember_104 : decode cX3_readMember 104 = .ok (.iload_n 2, 1) := dk_28 (dk_at dksX3_readMember_4 13 rfl rfl)
theorem dX3_readMember_105 : decode cX3_readMember 105 = .ok (.ior, 1) := dk_128 (dk_at dksX3_readMember_4 14 rfl rfl)
theorem dX3_readMember_106 : decode cX3_readMember 106 = .ok (.ireturn, 1) := dk_172 (dk_at dksX3_readMember_4 15 rfl rfl)
/-- PackingDuelModel.readMember(I)I -/
def zb283 (G : zPg) (C : zO) (args : List Value) (Q : zQ) (Y : zY) (σ : zS) : Prop := ∃ (a0 : Nat) (x1 : Int32), args = [.ref a0, .int x1] ∧ (zrc σ (some a0) 4 (fun a4 => zcl C 277 [.ref a4] Y σ (zqI (fun v1 s2 => zgR s2 (some a0) 4 1 (fun v8 => zaI s2 0 v8 (0 : Int32) (fun v20 => zcl C 166 [.int v1, .int (0 : Int32), .int (v20 - (1 : Int32))] Y s2 (zqI (fun v22 s23 => zrc s23 (some a0) 4 (fun a28 => zcl C 273 [.ref a28, .int v22, .int (2 : Int32)] Y s23 (zqV (fun s26 => zgI s26 (some a0) 4 33 (fun v32 => zJ (fun (p38 : Int32) (s39 : zS) => zgI s39 (some a0) 4 33 (fun v41 => zJ (fun (p47 : Int32) (s48 : zS) => zrc s48 (some a0) 4 (fun a53 => zcl C 273 [.ref a53, .int p47, .int (4 : Int32)] Y s48 (zqV (fun s51 => zgI s51 (some a0) 4 33 (fun v57 => zJ (fun (p63 : Int32) (s64 : zS) => zrc s64 (some a0) 4 (fun a69 => zcl C 273 [.ref a69, .int p63, .int (5 : Int32)] Y s64 (zqV (fun s67 => zrc s67 (some a0) 4 (fun a76 => zcl C 275 [.ref a76] Y s67 (zqV (fun s74 => Q (some (.int (x1 ||| p38))) s74))))))) (fun (j65 : Int32 → zS → Prop) => zJ (fun  (s80 : zS) => j65 (1 : Int32) s80) (fun (j81 : zS → Prop) => ((¬ v57 = 0) → j81 s51) ∧ ((v57 = 0) → zgR s51 (some a0) 4 1 (fun v83 => zcl C 162 [va_rf v83, .int (x1 ||| p38), .int (0 : Int32)] Y s51 (zqI (fun v89 s90 => zgR s90 (some a0) 4 1 (fun v92 => zaI s90 0 v92 (1 : Int32) (fun v104 => ((v104 < v89) → j65 (0 : Int32) s90) ∧ ((¬ v104 < v89) → j81 s90)))))))))))))) (fun (j49 : Int32 → zS → Prop) => zJ (fun  (s107 : zS) => j49 (1 : Int32) s107) (fun (j108 : zS → Prop) => ((¬ v41 = 0) → j108 s39) ∧ ((v41 = 0) → ((¬ (x1 &&& p38) = 0) → j49 (0 : Int32) s39) ∧ (((x1 &&& p38) = 0) → j108 s39)))))) (fun (j40 : Int32 → zS → Prop) => ((¬ v32 = 0) → j40 (0 : Int32) s26) ∧ ((v32 = 0) → zrc s26 (some a0) 4 (fun a115 => zcl C 277 [.ref a115] Y s26 (zqI (fun v112 s113 => j40 ((1 : Int32) <<< (v112 &&& 31)) s113)))))))))))))))))
set_option maxHeartbeats 4000000 in
theorem wk283 {l : Launch} {g : zG} {d : Nat} {C : zO} (hG : zGk g) (hC : zSound l g d C) {args : List Value} {Q : zQ} {Y : zY} {σ : zS} (hw : zb283 (zpg g) C args Q Y σ) : zMet l g (d + 1) (⟨"PackingDuelModel", "readMember", "(I)I"⟩, Cond.code ⟨"PackingDuelModel", "readMember", "(I)I"⟩ prog_28_method_128_code 3 (Option.some FieldType.int)) args σ Q Y := by
  obtain ⟨a0, x1, rfl, hw⟩ := hw
  refine zof hG (by decide +kernel) [false, false] ⟨rfl, rfl, trivial⟩ (Nat.le_of_ble_eq_true rfl) (ls := [some (va_rf (some a0)), some (.int x1), none]) rfl ?_
  intro X hX hR hTb hd1 hd2 hl hg hnm
  subst hl
  subst hg
  have hd : zDep X d := ⟨hd1, hd2⟩
  refine z_aload_n hX dX3_readMember_0 rfl (i := 0) rfl ?_
  refine z_aload_n hX dX3_readMember_1 rfl (i := 0) rfl ?_
  obtain ⟨a4, f5, r6, m7, hw⟩ := hw
  refine z_invV hX hd r6 (ci := 4) rfl rfl m7 dX3_readMember_2 (hC 277 _ zm277 _ _ _ _ hw) q3077 q3079 qs113 zh7 q3080 q136 zn277 rfl (Nat.le_of_ble_eq_true rfl) (st := [va_rf (some a0)]) rfl (zcs8 (Nat.le_of_ble_eq_true rfl)) rfl (zkI (fun v1 s2 hw => ?_)) (zout hX hR hTb)
  refine z_iconst hX (v := (0 : Int32)) dX3_readMember_5 (by decide) ?_
  refine z_aload_n hX dX3_readMember_6 rfl (i := 0) rfl ?_
  obtain ⟨a9, f10, v8, r11, m12, e13, hw⟩ := hw
  refine z_get hX zc4 (k := 1) dX3_readMember_7 (Nat.le_of_ble_eq_true rfl) (zlk hX q2470) r11 m12 e13 ?_
  refine z_iconst hX (v := (0 : Int32)) dX3_readMember_10 (by decide) ?_
  obtain ⟨a14, n15, f16, r17, m18, i19, hw⟩ := hw
  refine z_iald hX dX3_readMember_11 r17 m18 i19 ?_
  revert hw
  generalize f16 (Int32.toNatClampNeg (0 : Int32)) = v20
  intro hw
  refine z_iconst hX (v := (1 : Int32)) dX3_readMember_12 (by decide) ?_
  refine z_isub hX dX3_readMember_13 ?_
  refine z_invS hX hd dX3_readMember_14 (hC 166 _ zm166 _ _ _ _ hw) q2632 q2633 zh7 q2634 q136 zn166 rfl (Nat.le_of_ble_eq_true rfl) (st := [va_rf (some a0)]) rfl (zcs8 (Nat.le_of_ble_eq_true rfl)) rfl (zkI (fun v22 s23 hw => ?_)) (zout hX hR hTb)
  refine z_iconst hX (v := (2 : Int32)) dX3_readMember_17 (by decide) ?_
  obtain ⟨a28, f29, r30, m31, hw⟩ := hw
  refine z_invV hX hd r30 (ci := 4) rfl rfl m31 dX3_readMember_18 (hC 273 _ zm273 _ _ _ _ hw) q3061 q3063 qs109 zh7 q3064 q136 zn273 rfl (Nat.le_of_ble_eq_true rfl) (st := []) rfl (zcs8 (Nat.le_of_ble_eq_true rfl)) rfl (zkV (fun s26 hw => ?_)) (zout hX hR hTb)
  refine z_aload_n hX dX3_readMember_21 rfl (i := 0) rfl ?_
  obtain ⟨a33, f34, v32, r35, m36, e37, hw⟩ := hw
  refine z_get hX zc4 (k := 33) dX3_readMember_22 (Nat.le_of_ble_eq_true rfl) (zlk hX q2502) r35 m36 e37 ?_
  refine zJ_w (P := fun (j : Int32 → zS → Prop) => ∀ (p38 : Int32) (s39 : zS), j p38 s39 → zW X s39 38 [some (va_rf (some a0)), some (.int x1), none] [.int p38]) hw (fun p38 s39 hw => ?_) (fun j40 hj40 hw => ?_)
  · refine z_istore_n hX dX3_readMember_38 rfl (i := 2) (Nat.le_of_ble_eq_true rfl) rfl (ls2 := [some (va_rf (some a0)), some (.int x1), some (.int p38)]) rfl ?_
    refine z_aload_n hX dX3_readMember_39 rfl (i := 0) rfl ?_
    refine z_aload_n hX dX3_readMember_40 rfl (i := 0) rfl ?_
    obtain ⟨a42, f43, v41, r44, m45, e46, hw⟩ := hw
    refine z_get hX zc4 (k := 33) dX3_readMember_41 (Nat.le_of_ble_eq_true rfl) (zlk hX q2502) r44 m45 e46 ?_
    refine zJ_w (P := fun (j : Int32 → zS → Prop) => ∀ (p47 : Int32) (s48 : zS), j p47 s48 → zW X s48 58 [some (va_rf (some a0)), some (.int x1), some (.int p38)] [.int p47, va_rf (some a0)]) hw (fun p47 s48 hw => ?_) (fun j49 hj49 hw => ?_)
    · refine z_iconst hX (v := (4 : Int32)) dX3_readMember_58 (by decide) ?_
      obtain ⟨a53, f54, r55, m56, hw⟩ := hw
      refine z_invV hX hd r55 (ci := 4) rfl rfl m56 dX3_readMember_59 (hC 273 _ zm273 _ _ _ _ hw) q3061 q3063 qs109 zh7 q3064 q136 zn273 rfl (Nat.le_of_ble_eq_true rfl) (st := []) rfl (zcs8 (Nat.le_of_ble_eq_true rfl)) rfl (zkV (fun s51 hw => ?_)) (zout hX hR hTb)
      refine z_aload_n hX dX3_readMember_62 rfl (i := 0) rfl ?_
      refine z_aload_n hX dX3_readMember_63 rfl (i := 0) rfl ?_
      obtain ⟨a58, f59, v57, r60, m61, e62, hw⟩ := hw
      refine z_get hX zc4 (k := 33) dX3_readMember_64 (Nat.le_of_ble_eq_true rfl) (zlk hX q2502) r60 m61 e62 ?_
      refine zJ_w (P := fun (j : Int32 → zS → Prop) => ∀ (p63 : Int32) (s64 : zS), j p63 s64 → zW X s64 95 [some (va_rf (some a0)), some (.int x1), some (.int p38)] [.int p63, va_rf (some a0)]) hw (fun p63 s64 hw => ?_) (fun j65 hj65 hw => ?_)
      · refine z_iconst hX (v := (5 : Int32)) dX3_readMember_95 (by decide) ?_
        obtain ⟨a69, f70, r71, m72, hw⟩ := hw
        refine z_invV hX hd r71 (ci := 4) rfl rfl m72 dX3_readMember_96 (hC 273 _ zm273 _ _ _ _ hw) q3061 q3063 qs109 zh7 q3064 q136 zn273 rfl (Nat.le_of_ble_eq_true rfl) (st := []) rfl (zcs8 (Nat.le_of_ble_eq_true rfl)) rfl (zkV (fun s67 hw => ?_)) (zout hX hR hTb)
        refine z_aload_n hX dX3_readMember_99 rfl (i := 0) rfl ?_
        obtain ⟨a76, f77, r78, m79, hw⟩ := hw
        refine z_invV hX hd r78 (ci := 4) rfl rfl m79 dX3_readMember_100 (hC 275 _ zm275 _ _ _ _ hw) q3069 q3071 qs111 zh7 q3072 q136 zn275 rfl (Nat.le_of_ble_eq_true rfl) (st := []) rfl (zcs8 (Nat.le_of_ble_eq_true rfl)) rfl (zkV (fun s74 hw => ?_)) (zout hX hR hTb)
        refine z_iload_n hX dX3_readMember_103 rfl (i := 1) rfl ?_
        refine z_iload_n hX dX3_readMember_104 rfl (i := 2) rfl ?_
        refine z_ior hX dX3_readMember_105 ?_
        exact z_ireturn hX hR dX3_readMember_106 rfl hw
      · refine zJ_w (P := fun (j : zS → Prop) => ∀  (s80 : zS), j  s80 → zW X s80 90 [some (va_rf (some a0)), some (.int x1), some (.int p38)] [va_rf (some a0)]) hw (fun  s80 hw => ?_) (fun j81 hj81 hw => ?_)
        · refine z_iconst hX (v := (1 : Int32)) dX3_readMember_90 (by decide) ?_
          refine z_goto hX dX3_readMember_91 (tgt := 95) rfl ?_
          exact hj65 _ _ hw
        · refine z_if_ne hX dX3_readMember_67 (tgt := 90) rfl (fun c82 => ?_) (fun c82 => ?_)
          · have hw := hw.1 c82
            exact hj81  _ hw
          · have hw := hw.2 c82
            refine z_aload_n hX dX3_readMember_70 rfl (i := 0) rfl ?_
            obtain ⟨a84, f85, v83, r86, m87, e88, hw⟩ := hw
            refine z_get hX zc4 (k := 1) dX3_readMember_71 (Nat.le_of_ble_eq_true rfl) (zlk hX q2470) r86 m87 e88 ?_
            refine z_iload_n hX dX3_readMember_74 rfl (i := 1) rfl ?_
            refine z_iload_n hX dX3_readMember_75 rfl (i := 2) rfl ?_
            refine z_ior hX dX3_readMember_76 ?_
            refine z_iconst hX (v := (0 : Int32)) dX3_readMember_77 (by decide) ?_
            refine z_invS hX hd dX3_readMember_78 (hC 162 _ zm162 _ _ _ _ hw) q2617 q2618 zh7 q2619 q136 zn162 rfl (Nat.le_of_ble_eq_true rfl) (st := [va_rf (some a0)]) rfl (zcs8 (Nat.le_of_ble_eq_true rfl)) rfl (zkI (fun v89 s90 hw => ?_)) (zout hX hR hTb)
            refine z_aload_n hX dX3_readMember_81 rfl (i := 0) rfl ?_
            obtain ⟨a93, f94, v92, r95, m96, e97, hw⟩ := hw
            refine z_get hX zc4 (k := 1) dX3_readMember_82 (Nat.le_of_ble_eq_true rfl) (zlk hX q2470) r95 m96 e97 ?_
            refine z_iconst hX (v := (1 : Int32)) dX3_readMember_85 (by decide) ?_
            obtain ⟨a98, n99, f100, r101, m102, i103, hw⟩ := hw
            refine z_iald hX dX3_readMember_86 r101 m102 i103 ?_
            revert hw
            generalize f100 (Int32.toNatClampNeg (1 : Int32)) = v104
            intro hw
            refine z_icmp_gt hX dX3_readMember_87 (tgt := 94) rfl (fun c106 => ?_) (fun c106 => ?_)
            · have hw := hw.1 c106
              refine z_iconst hX (v := (0 : Int32)) dX3_readMember_94 (by decide) ?_
              exact hj65 _ _ hw
            · have hw := hw.2 c106
              exact hj81  _ hw
    · refine zJ_w (P := fun (j : zS → Prop) => ∀  (s107 : zS), j  s107 → zW X s107 53 [some (va_rf (some a0)), some (.int x1), some (.int p38)] [va_rf (some a0)]) hw (fun  s107 hw => ?_) (fun j108 hj108 hw => ?_)
      · refine z_iconst hX (v := (1 : Int32)) dX3_readMember_53 (by decide) ?_
        refine z_goto hX dX3_readMember_54 (tgt := 58) rfl ?_
        exact hj49 _ _ hw
      · refine z_if_ne hX dX3_readMember_44 (tgt := 53) rfl (fun c109 => ?_) (fun c109 => ?_)
        · have hw := hw.1 c109
          exact hj108  _ hw
        · have hw := hw.2 c109
          refine z_iload_n hX dX3_readMember_47 rfl (i := 1) rfl ?_
          refine z_iload_n hX dX3_readMember_48 rfl (i := 2) rfl ?_
          refine z_iand hX dX3_readMember_49 ?_
          refine z_if_ne hX dX3_readMember_50 (tgt := 57) rfl (fun c110 => ?_) (fun c110 => ?_)
          · have hw := hw.1 c110
            refine z_iconst hX (v := (0 : Int32)) dX3_readMember_57 (by decide) ?_
            exact hj49 _ _ hw
          · have hw := hw.2 c110
            exact hj108  _ hw
  · refine z_if_ne hX dX3_readMember_25 (tgt := 37) rfl (fun c111 => ?_) (fun c111 => ?_)
    · have hw := hw.1 c111
      refine z_iconst hX (v := (0 : Int32)) dX3_readMember_37 (by decide) ?_
      exact hj40 _ _ hw
    · have hw := hw.2 c111
      refine z_iconst hX (v := (1 : Int32)) dX3_readMember_28 (by decide) ?_
      refine z_aload_n hX dX3_readMember_29 rfl (i := 0) rfl ?_
      obtain ⟨a115, f116, r117, m118, hw⟩ := hw
      refine z_invV hX hd r117 (ci := 4) rfl rfl m118 dX3_readMember_30 (hC 277 _ zm277 _ _ _ _ hw) q3077 q3079 qs113 zh7 q3080 q136 zn277 rfl (Nat.le_of_ble_eq_true rfl) (st := [.int (1 : Int32)]) rfl (zcs8 (Nat.le_of_ble_eq_true rfl)) rfl (zkI (fun v112 s113 hw => ?_)) (zout hX hR hTb)
      refine z_ishl hX dX3_readMember_33 ?_
      refine z_goto hX dX3_readMember_34 (tgt := 38) rfl ?_
      exact hj40 _ _ hw
abbrev cX3_finish : ByteArray := prog_28_method_116_code
def yX3_finish : MethodName := ⟨RX3, "finish", "()I"⟩
def dkwX3_finish_1 : List UInt8 := [42, 180, 1, 152, 172]
abbrev dktX3_finish_1 : List UInt8 := dkwX3_finish_1 ++ []
def dkwX3_finish_0 : List UInt8 := [42, 3, 181, 1, 128, 42, 42, 180, 1, 152, 154, 0, 7, 2, 167, 0, 7, 42, 180, 1, 161, 181, 0, 65]
abbrev dktX3_finish_0 : List UInt8 := dkwX3_finish_0 ++ dktX3_finish_1
theorem dksX3_finish_0 : cX3_finish.data.toList.drop 0 = dktX3_finish_0 := by decide +kernel
theorem dksX3_finish_1 : cX3_finish.data.toList.drop 24 = dktX3_finish_1 := dk_seg dksX3_finish_0 24 rfl rfl
theorem dX3_finish_0 : decode cX3_finish 0 = .ok (.aload_n 0, 1) := dk_42 (dk_at dksX3_finish_0 0 rfl rfl)
theorem dX3_finish_1 : decode cX3_finish 1 = .ok (.iconst 0, 1) := dk_3 (dk_at dksX3_finish_0 1 rfl rfl)
theorem dX3_finish_2 : decode cX3_finish 2 = .ok (.putfield 384, 3) := dk_181 1 128 (dk_at dksX3_finish_0 2 rfl rfl)
theorem dX3_finish_5 : decode cX3_finish 5 = .ok (.aload_n 0, 1) := dk_42 (dk_at dksX3_finish_0 5 rfl rfl)
theorem dX3_finish_6 : decode cX3_finish 6 = .ok (.aload_n 0, 1) := dk_42 (dk_at dksX3_finish_0 6 rfl rfl)
theorem dX3_finish_7 : decode cX3_finish 7 = .ok (.getfield 408, 3) := dk_180 1 152 (dk_at dksX3_finish_0 7 rfl rfl)
theorem dX3_finish_10 : decode cX3_finish 10 = .ok (.ifCond .ne 7, 3) := dk_154 0 7 (dk_at dksX3_finish_0 10 rfl rfl)
theorem dX3_finish_13 : decode cX3_finish 13 = .ok (.iconst (-1), 1) := dk_2 (dk_at dksX3_finish_0 13 rfl rfl)
theorem dX3_finish_14 : decode cX3_finish 14 = .ok (.goto 7, 3) := dk_167 0 7 (dk_at dksX3_finish_0 14 rfl rfl)
theorem dX3_finish_17 : decode cX3_finish 17 = .ok (.aload_n 0, 1) := dk_42 (dk_at dksX3_finish_0 17 rfl rfl)
theorem dX3_finish_18 : decode cX3_finish 18 = .ok (.getfield 417, 3) := dk_180 1 161 (dk_at dksX3_finish_0 18 rfl rfl)
theorem dX3_finish_21 : decode cX3_finish 21 = .ok (.putfield 65, 3) := dk_181 0 65 (dk_at dksX3_finish_0 21 rfl rfl)
theorem dX3_finish_24 : decode cX3_finish 24 = .ok (.aload_n 0, 1) := dk_42 (dk_at dksX3_finish_1 0 rfl rfl)
theorem dX3_finish_25 : decode cX3_finish 25 = .ok (.getfield 408, 3) := dk_180 1 152 (dk_at dksX3_finish_1 1 rfl rfl)
theorem dX3_finish_28 : decode cX3_finish 28 = .ok (.ireturn, 1) := dk_172 (dk_at dksX3_finish_1 4 rfl rfl)
/-- PackingDuelModel.finish()I -/
def zb284 (G : zPg) (C : zO) (args : List Value) (Q : zQ) (Y : zY) (σ : zS) : Prop := ∃ (a0 : Nat), args = [.ref a0] ∧ (zput σ G.1 (some a0) 4 28 (.int (0 : Int32)) (fun s1 => zgI s1 (some a0) 4 33 (fun v9 => zJ (fun (p15 : Int32) (s16 : zS) => zput s16 G.1 (some a0) 4 35 (.int p15) (fun s18 => zgI s18 (some a0) 4 33 (fun v26 => Q (some (.int v26)) s18))) (fun (j17 : Int32 → zS → Prop) => ((¬ v9 = 0) → zgI s1 (some a0) 4 34 (fun v33 => j17 v33 s1)) ∧ ((v9 = 0) → j17 (-1 : Int32) s1)))))
set_option maxHeartbeats 4000000 in
theorem wk284 {l : Launch} {g : zG} {d : Nat} {C : zO} (hG : zGk g) (hC : zSound l g d C) {args : List Value} {Q : zQ} {Y : zY} {σ : zS} (hw : zb284 (zpg g) C args Q Y σ) : zMet l g (d + 1) (⟨"PackingDuelModel", "finish", "()I"⟩, Cond.code ⟨"PackingDuelModel", "finish", "()I"⟩ prog_28_method_116_code 1 (Option.some FieldType.int)) args σ Q Y := by
  obtain ⟨a0, rfl, hw⟩ := hw
  refine zof hG (by decide +kernel) [false] ⟨rfl, trivial⟩ (Nat.le_of_ble_eq_true rfl) (ls := [some (va_rf (some a0))]) rfl ?_
  intro X hX hR hTb hd1 hd2 hl hg hnm
  subst hl
  subst hg
  have hd : zDep X d := ⟨hd1, hd2⟩
  refine z_aload_n hX dX3_finish_0 rfl (i := 0) rfl ?_
  refine z_iconst hX (v := (0 : Int32)) dX3_finish_1 (by decide) ?_
  obtain ⟨a3, f4, r5, g6, m7, l8, hw⟩ := hw
  refine z_put hX zc4 (k := 28) dX3_finish_2 (Nat.le_of_ble_eq_true rfl) (zlk hX q2497) rfl rfl rfl r5 g6 m7 l8 (z_nm (fun s1 e2 => ?_))
  have hw := hw s1 e2
  refine z_aload_n hX dX3_finish_5 rfl (i := 0) rfl ?_
  refine z_aload_n hX dX3_finish_6 rfl (i := 0) rfl ?_
  obtain ⟨a10, f11, v9, r12, m13, e14, hw⟩ := hw
  refine z_get hX zc4 (k := 33) dX3_finish_7 (Nat.le_of_ble_eq_true rfl) (zlk hX q2502) r12 m13 e14 ?_
  refine zJ_w (P := fun (j : Int32 → zS → Prop) => ∀ (p15 : Int32) (s16 : zS), j p15 s16 → zW X s16 21 [some (va_rf (some a0))] [.int p15, va_rf (some a0)]) hw (fun p15 s16 hw => ?_) (fun j17 hj17 hw => ?_)
  · obtain ⟨a20, f21, r22, g23, m24, l25, hw⟩ := hw
    refine z_put hX zc4 (k := 35) dX3_finish_21 (Nat.le_of_ble_eq_true rfl) (zlk hX q2504) rfl rfl rfl r22 g23 m24 l25 (z_nm (fun s18 e19 => ?_))
    have hw := hw s18 e19
    refine z_aload_n hX dX3_finish_24 rfl (i := 0) rfl ?_
    obtain ⟨a27, f28, v26, r29, m30, e31, hw⟩ := hw
    refine z_get hX zc4 (k := 33) dX3_finish_25 (Nat.le_of_ble_eq_true rfl) (zlk hX q2502) r29 m30 e31 ?_
    exact z_ireturn hX hR dX3_finish_28 rfl hw
  · refine z_if_ne hX dX3_finish_10 (tgt := 17) rfl (fun c32 => ?_) (fun c32 => ?_)
    · have hw := hw.1 c32
      refine z_aload_n hX dX3_finish_17 rfl (i := 0) rfl ?_
      obtain ⟨a34, f35, v33, r36, m37, e38, hw⟩ := hw
      refine z_get hX zc4 (k := 34) dX3_finish_18 (Nat.le_of_ble_eq_true rfl) (zlk hX q2503) r36 m37 e38 ?_
      exact hj17 _ _ hw
    · have hw := hw.2 c32
      refine z_iconst hX (v := (-1 : Int32)) dX3_finish_13 (by decide) ?_
      refine z_goto hX dX3_finish_14 (tgt := 21) rfl ?_
      exact hj17 _ _ hw
abbrev cX3_query : ByteArray := prog_28_method_141_code
def yX3_query : MethodName := ⟨RX3, "query", "(I)I"⟩
def dkwX3_query_7 : List UInt8 := [172, 132, 3, 1, 132, 4, 1, 167, 255, 211, 28, 153, 0, 7, 2, 167, 0, 4, 29, 172]
abbrev dktX3_query_7 : List UInt8 := dkwX3_query_7 ++ []
def dkwX3_query_6 : List UInt8 := [182, 0, 136, 153, 0, 25, 42, 21, 4, 182, 2, 23, 154, 0, 6, 167, 0, 13, 28, 153, 0, 6, 21, 4]
abbrev dktX3_query_6 : List UInt8 := dkwX3_query_6 ++ dktX3_query_7
def dkwX3_query_5 : List UInt8 := [3, 62, 42, 182, 1, 42, 3, 54, 4, 21, 4, 4, 42, 182, 0, 106, 120, 162, 0, 40, 42, 21, 4]
abbrev dktX3_query_5 : List UInt8 := dkwX3_query_5 ++ dktX3_query_6
def dkwX3_query_4 : List UInt8 := [167, 0, 4, 3, 4, 182, 1, 178, 42, 182, 1, 236, 153, 0, 12, 19, 1, 101, 42, 180, 1, 152, 100, 172]
abbrev dktX3_query_4 : List UInt8 := dkwX3_query_4 ++ dktX3_query_5
def dkwX3_query_3 : List UInt8 := [182, 1, 181, 42, 182, 1, 253, 42, 42, 180, 1, 152, 154, 0, 10, 42, 180, 1, 143, 154, 0, 7, 4]
abbrev dktX3_query_3 : List UInt8 := dkwX3_query_3 ++ dktX3_query_4
def dkwX3_query_2 : List UInt8 := [28, 154, 0, 13, 42, 19, 2, 21, 182, 1, 174, 153, 0, 7, 4, 167, 0, 4, 3, 4, 182, 1, 178, 42]
abbrev dktX3_query_2 : List UInt8 := dkwX3_query_2 ++ dktX3_query_3
def dkwX3_query_1 : List UInt8 := [4, 182, 1, 33, 172, 42, 3, 181, 1, 239, 42, 27, 182, 1, 230, 42, 19, 2, 19, 182, 1, 174, 61, 42]
abbrev dktX3_query_1 : List UInt8 := dkwX3_query_1 ++ dktX3_query_2
def dkwX3_query_0 : List UInt8 := [42, 3, 181, 0, 103, 27, 3, 42, 180, 1, 128, 17, 0, 200, 184, 2, 17, 184, 0, 109, 154, 0, 9, 42]
abbrev dktX3_query_0 : List UInt8 := dkwX3_query_0 ++ dktX3_query_1
theorem dksX3_query_0 : cX3_query.data.toList.drop 0 = dktX3_query_0 := by decide +kernel
theorem dksX3_query_1 : cX3_query.data.toList.drop 24 = dktX3_query_1 := dk_seg dksX3_query_0 24 rfl rfl
theorem dksX3_query_2 : cX3_query.data.toList.drop 48 = dktX3_query_2 := dk_seg dksX3_query_1 24 rfl rfl
theorem dksX3_query_3 : cX3_query.data.toList.drop 72 = dktX3_query_3 := dk_seg dksX3_query_2 24 rfl rfl
theorem dksX3_query_4 : cX3_query.data.toList.drop 95 = dktX3_query_4 := dk_seg dksX3_query_3 23 rfl rfl
theorem dksX3_query_5 : cX3_query.data.toList.drop 119 = dktX3_query_5 := dk_seg dksX3_query_4 24 rfl rfl
theorem dksX3_query_6 : cX3_query.data.toList.drop 142 = dktX3_query_6 := dk_seg dksX3_query_5 23 rfl rfl
theorem dksX3_query_7 : cX3_query.data.toList.drop 166 = dktX3_query_7 := dk_seg dksX3_query_6 24 rfl rfl
theorem dX3_query_0 : decode cX3_query 0 = .ok (.aload_n 0, 1) := dk_42 (dk_at dksX3_query_0 0 rfl rfl)
theorem dX3_query_1 : decode cX3_query 1 = .ok (.iconst 0, 1) := dk_3 (dk_at dksX3_query_0 1 rfl rfl)
theorem dX3_query_2 : decode cX3_query 2 = .ok (.putfield 103, 3) := dk_181 0 103 (dk_at dksX3_query_0 2 rfl rfl)
theorem dX3_query_5 : decode cX3_query 5 = .ok (.iload_n 1, 1) := dk_27 (dk_at dksX3_query_0 5 rfl rfl)
theorem dX3_query_6 : decode cX3_query 6 = .ok (.iconst 0, 1) := dk_3 (dk_at dksX3_query_0 6 rfl rfl)
theorem dX3_query_7 : decode cX3_query 7 = .ok (.aload_n 0, 1) := dk_42 (dk_at dksX3_query_0 7 rfl rfl)
theorem dX3_query_8 : decode cX3_query 8 = .ok (.getfield 384, 3) := dk_180 1 128 (dk_at dksX3_query_0 8 rfl rfl)
theorem dX3_query_11 : decode cX3_query 11 = .ok (.sipush 200, 3) := dk_17 0 200 (dk_at dksX3_query_0 11 rfl rfl)
theorem dX3_query_14 : decode cX3_query 14 = .ok (.invokestatic 529, 3) := dk_184 2 17 (dk_at dksX3_query_0 14 rfl rfl)
theorem dX3_query_17 : decode cX3_query 17 = .ok (.invokestatic 109, 3) := dk_184 0 109 (dk_at dksX3_query_0 17 rfl rfl)
theorem dX3_query_20 : decode cX3_query 20 = .ok (.ifCond .ne 9, 3) := dk_154 0 9 (dk_at dksX3_query_0 20 rfl rfl)
theorem dX3_query_23 : decode cX3_query 23 = .ok (.aload_n 0, 1) := dk_42 (dk_at dksX3_query_0 23 rfl rfl)
theorem dX3_query_24 : decode cX3_query 24 = .ok (.iconst 1, 1) := dk_4 (dk_at dksX3_query_1 0 rfl rfl)
theorem dX3_query_25 : decode cX3_query 25 = .ok (.invokevirtual 289, 3) := dk_182 1 33 (dk_at dksX3_query_1 1 rfl rfl)
theorem dX3_query_28 : decode cX3_query 28 = .ok (.ireturn, 1) := dk_172 (dk_at dksX3_query_1 4 rfl rfl)
theorem dX3_query_29 : decode cX3_query 29 = .ok (.aload_n 0, 1) := dk_42 (dk_at dksX3_query_1 5 rfl rfl)
theorem dX3_query_30 : decode cX3_query 30 = .ok (.iconst 0, 1) := dk_3 (dk_at dksX3_query_1 6 rfl rfl)
theorem dX3_query_31 : decode cX3_query 31 = .ok (.putfield 495, 3) := dk_181 1 239 (dk_at dksX3_query_1 7 rfl rfl)
theorem dX3_query_34 : decode cX3_query 34 = .ok (.aload_n 0, 1) := dk_42 (dk_at dksX3_query_1 10 rfl rfl)
theorem dX3_query_35 : decode cX3_query 35 = .ok (.iload_n 1, 1) := dk_27 (dk_at dksX3_query_1 11 rfl rfl)
theorem dX3_query_36 : decode cX3_query 36 = .ok (.invokevirtual 486, 3) := dk_182 1 230 (dk_at dksX3_query_1 12 rfl rfl)
theorem dX3_query_39 : decode cX3_query 39 = .ok (.aload_n 0, 1) := dk_42 (dk_at dksX3_query_1 15 rfl rfl)
theorem dX3_query_40 : decode cX3_query 40 = .ok (.ldc_w 531, 3) := dk_19 2 19 (dk_at dksX3_query_1 16 rfl rfl)
theorem dX3_query_43 : decode cX3_query 43 = .ok (.invokevirtual 430, 3) := dk_182 1 174 (dk_at dksX3_query_1 19 rfl rfl)
theorem dX3_query_46 : decode cX3_query 46 = .ok (.istore_n 2, 1) := dk_61 (dk_at dksX3_query_1 22 rfl rfl)
theorem dX3_query_47 : decode cX3_query 47 = .ok (.aload_n 0, 1) := dk_42 (dk_at dksX3_query_1 23 rfl rfl)
theorem dX3_query_48 : decode cX3_query 48 = .ok (.iload_n 2, 1) := dk_28 (dk_at dksX3_query_2 0 rfl rfl)
theorem dX3_query_49 : decode cX3_query 49 = .ok (.ifCond .ne 13, 3) := dk_154 0 13 (dk_at dksX3_query_2 1 rfl rfl)
theorem dX3_query_52 : decode cX3_query 52 = .ok (.aload_n 0, 1) := dk_42 (dk_at dksX3_query_2 4 rfl rfl)
theorem dX3_query_53 : decode cX3_query 53 = .ok (.ldc_w 533, 3) := dk_19 2 21 (dk_at dksX3_query_2 5 rfl rfl)
theorem dX3_query_56 : decode cX3_query 56 = .ok (.invokevirtual 430, 3) := dk_182 1 174 (dk_at dksX3_query_2 8 rfl rfl)
theorem dX3_query_59 : decode cX3_query 59 = .ok (.ifCond .eq 7, 3) := dk_153 0 7 (dk_at dksX3_query_2 11 rfl rfl)
theorem dX3_query_62 : decode cX3_query 62 = .ok (.iconst 1, 1) := dk_4 (dk_at dksX3_query_2 14 rfl rfl)
theorem dX3_query_63 : decode cX3_query 63 = .ok (.goto 4, 3) := dk_167 0 4 (dk_at dksX3_query_2 15 rfl rfl)
theorem dX3_query_66 : decode cX3_query 66 = .ok (.iconst 0, 1) := dk_3 (dk_at dksX3_query_2 18 rfl rfl)
theorem dX3_query_67 : decode cX3_query 67 = .ok (.iconst 1, 1) := dk_4 (dk_at dksX3_query_2 19 rfl rfl)
theorem dX3_query_68 : decode cX3_query 68 = .ok (.invokevirtual 434, 3) := dk_182 1 178 (dk_at dksX3_query_2 20 rfl rfl)
theorem dX3_query_71 : decode cX3_query 71 = .ok (.aload_n 0, 1) := dk_42 (dk_at dksX3_query_2 23 rfl rfl)
theorem dX3_query_72 : decode cX3_query 72 = .ok (.invokevirtual 437, 3) := dk_182 1 181 (dk_at dksX3_query_3 0 rfl rfl)
theorem dX3_query_75 : decode cX3_query 75 = .ok (.aload_n 0, 1) := dk_42 (dk_at dksX3_query_3 3 rfl rfl)
theorem dX3_query_76 : decode cX3_query 76 = .ok (.invokevirtual 509, 3) := dk_182 1 253 (dk_at dksX3_query_3 4 rfl rfl)
theorem dX3_query_79 : decode cX3_query 79 = .ok (.aload_n 0, 1) := dk_42 (dk_at dksX3_query_3 7 rfl rfl)
theorem dX3_query_80 : decode cX3_query 80 = .ok (.aload_n 0, 1) := dk_42 (dk_at dksX3_query_3 8 rfl rfl)
theorem dX3_query_81 : decode cX3_query 81 = .ok (.getfield 408, 3) := dk_180 1 152 (dk_at dksX3_query_3 9 rfl rfl)
theorem dX3_query_84 : decode cX3_query 84 = .ok (.ifCond .ne 10, 3) := dk_154 0 10 (dk_at dksX3_query_3 12 rfl rfl)
theorem dX3_query_87 : decode cX3_query 87 = .ok (.aload_n 0, 1) := dk_42 (dk_at dksX3_query_3 15 rfl rfl)
theorem dX3_query_88 : decode cX3_query 88 = .ok (.getfield 399, 3) := dk_180 1 143 (dk_at dksX3_query_3 16 rfl rfl)
theorem dX3_query_91 : decode cX3_query 91 = .ok (.ifCond .ne 7, 3) := dk_154 0 7 (dk_at dksX3_query_3 19 rfl rfl)
theorem dX3_query_94 : decode cX3_query 94 = .ok (.iconst 1, 1) := dk_4 (dk_at dksX3_query_3 22 rfl rfl)
theorem dX3_query_95 : decode cX3_query 95 = .ok (.goto 4, 3) := dk_167 0 4 (dk_at dksX3_query_4 0 rfl rfl)
theorem dX3_query_98 : decode cX3_query 98 = .ok (.iconst 0, 1) := dk_3 (dk_at dksX3_query_4 3 rfl rfl)
theorem dX3_query_99 : decode cX3_query 99 = .ok (.iconst 1, 1) := dk_4 (dk_at dksX3_query_4 4 rfl rfl)
theorem dX3_query_100 : decode cX3_query 100 = .ok (.invokevirtual 434, 3) := dk_182 1 178 (dk_at dksX3_query_4 5 rfl rfl)
theorem dX3_query_103 : decode cX3_query 103 = .ok (.aload_n 0, 1) := dk_42 (dk_at dksX3_query_4 8 rfl rfl)
theorem dX3_query_104 : decode cX3_query 104 = .ok (.invokevirtual 492, 3) := dk_182 1 236 (dk_at dksX3_query_4 9 rfl rfl)
theorem dX3_query_107 : decode cX3_query 107 = .ok (.ifCond .eq 12, 3) := dk_153 0 12 (dk_at dksX3_query_4 12 rfl rfl)
theorem dX3_query_110 : decode cX3_query 110 = .ok (.ldc_w 357, 3) := dk_19 1 101 (dk_at dksX3_query_4 15 rfl rfl)
theorem dX3_query_113 : decode cX3_query 113 = .ok (.aload_n 0, 1) := dk_42 (dk_at dksX3_query_4 18 rfl rfl)
theorem dX3_query_114 : decode cX3_query 114 = .ok (.getfield 408, 3) := dk_180 1 152 (dk_at dksX3_query_4 19 rfl rfl)
theorem dX3_query_117 : decode cX3_query 117 = .ok (.isub, 1) := dk_100 (dk_at dksX3_query_4 22 rfl rfl)
theorem dX3_query_118 : decode cX3_query 118 = .ok (.ireturn, 1) := dk_172 (dk_at dksX3_query_4 23 rfl rfl)
theorem dX3_query_119 : decode cX3_query 119 = .ok (.iconst 0, 1) := dk_3 (dk_at dksX3_query_5 0 rfl rfl)
theorem dX3_query_120 : decode cX3_query 120 = .ok (.istore_n 3, 1) := dk_62 (dk_at dksX3_query_5 1 rfl rfl)
theorem dX3_query_121 : decode cX3_query 121 = .ok (.aload_n 0, 1) := dk_42 (dk_at dksX3_query_5 2 rfl rfl)
theorem dX3_query_122 : decode cX3_query 122 = .ok (.invokevirtual 298, 3) := dk_182 1 42 (dk_at dksX3_query_5 3 rfl rfl)
theorem dX3_query_125 : decode cX3_query 125 = .ok (.iconst 0, 1) := dk_3 (dk_at dksX3_query_5 6 rfl rfl)
theorem dX3_query_126 : decode cX3_query 126 = .ok (.istore 4, 2) := dk_54 4 (dk_at dksX3_query_5 7 rfl rfl)
theorem dX3_query_128 : decode cX3_query 128 = .ok (.iload 4, 2) := dk_21 4 (dk_at dksX3_query_5 9 rfl rfl)
theorem dX3_query_130 : decode cX3_query 130 = .ok (.iconst 1, 1) := dk_4 (dk_at dksX3_query_5 11 rfl rfl)
theorem dX3_query_131 : decode cX3_query 131 = .ok (.aload_n 0, 1) := dk_42 (dk_at dksX3_query_5 12 rfl rfl)
theorem dX3_query_132 : decode cX3_query 132 = .ok (.invokevirtual 106, 3) := dk_182 0 106 (dk_at dksX3_query_5 13 rfl rfl)
theorem dX3_query_135 : decode cX3_query 135 = .ok (.ishl, 1) := dk_120 (dk_at dksX3_query_5 16 rfl rfl)
theorem dX3_query_136 : decode cX3_query 136 = .ok (.if_icmp .ge 40, 3) := dk_162 0 40 (dk_at dksX3_query_5 17 rfl rfl)
theorem dX3_query_139 : decode cX3_query 139 = .ok (.aload_n 0, 1) := dk_42 (dk_at dksX3_query_5 20 rfl rfl)
theorem dX3_query_140 : decode cX3_query 140 = .ok (.iload 4, 2) := dk_21 4 (dk_at dksX3_query_5 21 rfl rfl)
theorem dX3_query_142 : decode cX3_query 142 = .ok (.invokevirtual 136, 3) := dk_182 0 136 (dk_at dksX3_query_6 0 rfl rfl)
theorem dX3_query_145 : decode cX3_query 145 = .ok (.ifCond .eq 25, 3) := dk_153 0 25 (dk_at dksX3_query_6 3 rfl rfl)
theorem dX3_query_148 : decode cX3_query 148 = .ok (.aload_n 0, 1) := dk_42 (dk_at dksX3_query_6 6 rfl rfl)
theorem dX3_query_149 : decode cX3_query 149 = .ok (.iload 4, 2) := dk_21 4 (dk_at dksX3_query_6 7 rfl rfl)
theorem dX3_query_151 : decode cX3_query 151 = .ok (.invokevirtual 535, 3) := dk_182 2 23 (dk_at dksX3_query_6 9 rfl rfl)
theorem dX3_query_154 : decode cX3_query 154 = .ok (.ifCond .ne 6, 3) := dk_154 0 6 (dk_at dksX3_query_6 12 rfl rfl)
theorem dX3_query_157 : decode cX3_query 157 = .ok (.goto 13, 3) := dk_167 0 13 (dk_at dksX3_query_6 15 rfl rfl)
theorem dX3_query_160 : decode cX3_query 160 = .ok (.iload_n 2, 1) := dk_28 (dk_at dksX3_query_6 18 rfl rfl)
theorem dX3_query_161 : decode cX3_query 161 = .ok (.ifCond .eq 6, 3) := dk_153 0 6 (dk_at dksX3_query_6 19 rfl rfl)
theorem dX3_query_164 : decode cX3_query 164 = .ok (.iload 4, 2) := dk_21 4 (dk_at dksX3_query_6 22 rfl rfl)
theorem dX3_query_166 : decode cX3_query 166 = .ok (.ireturn, 1) := dk_172 (dk_at dksX3_query_7 0 rfl rfl)
theorem dX3_query_167 : decode cX3_query 167 = .ok (.iinc 3 1, 3) := dk_132 3 1 (dk_at dksX3_query_7 1 rfl rfl)
theorem dX3_query_170 : decode cX3_query 170 = .ok (.iinc 4 1, 3) := dk_132 4 1 (dk_at dksX3_query_7 4 rfl rfl)
theorem dX3_query_173 : decode cX3_query 173 = .ok (.goto (-45), 3) := dk_167 255 211 (dk_at dksX3_query_7 7 rfl rfl)
theorem dX3_query_176 : decode cX3_query 176 = .ok (.iload_n 2, 1) := dk_28 (dk_at dksX3_query_7 10 rfl rfl)
theorem dX3_query_177 : decode cX3_query 177 = .ok (.ifCond .eq 7, 3) := dk_153 0 7 (dk_at dksX3_query_7 11 rfl rfl)
theorem dX3_query_180 : decode cX3_query 180 = .ok (.iconst (-1), 1) := dk_2 (dk_at dksX3_query_7 14 rfl rfl)
theorem dX3_query_181 : decode cX3_query 181 = .ok (.goto 4, 3) := dk_167 0 4 (dk_at dksX3_query_7 15 rfl rfl)
theorem dX3_query_184 : decode cX3_query 184 = .ok (.iload_n 3, 1) := dk_29 (dk_at dksX3_query_7 18 rfl rfl)
theorem dX3_query_185 : decode cX3_query 185 = .ok (.ireturn, 1) := dk_172 (dk_at dksX3_query_7 19 rfl rfl)
/-- PackingDuelModel.query(I)I -/
def zb285 (G : zPg) (C : zO) (args : List Value) (Q : zQ) (Y : zY) (σ : zS) : Prop := ∃ (a0 : Nat) (x1 : Int32), args = [.ref a0, .int x1] ∧ (zput σ G.1 (some a0) 4 5 (.int (0 : Int32)) (fun s1 => zgI s1 (some a0) 4 28 (fun v9 => zcl C 295 [.int v9, .int (200 : Int32)] Y s1 (zqI (fun v15 s16 => zcl C 166 [.int x1, .int (0 : Int32), .int v15] Y s16 (zqI (fun v18 s19 => ((¬ v18 = 0) → zput s19 G.1 (some a0) 4 40 (.int (0 : Int32)) (fun s22 => zrc s22 (some a0) 4 (fun a33 => zcl C 265 [.ref a33, .int x1] Y s22 (zqV (fun s31 => zrc s31 (some a0) 4 (fun a40 => zcl C 272 [.ref a40, va_rf (some (G.2 24))] Y s31 (zqI (fun v37 s38 => zJ (fun (p44 : Int32) (s45 : zS) => zrc s45 (some a0) 4 (fun a50 => zcl C 273 [.ref a50, .int p44, .int (1 : Int32)] Y s45 (zqV (fun s48 => zrc s48 (some a0) 4 (fun a57 => zcl C 275 [.ref a57] Y s48 (zqV (fun s55 => zrc s55 (some a0) 4 (fun a64 => zcl C 286 [.ref a64] Y s55 (zqV (fun s62 => zgI s62 (some a0) 4 33 (fun v68 => zJ (fun (p74 : Int32) (s75 : zS) => zrc s75 (some a0) 4 (fun a80 => zcl C 273 [.ref a80, .int p74, .int (1 : Int32)] Y s75 (zqV (fun s78 => zrc s78 (some a0) 4 (fun a87 => zcl C 284 [.ref a87] Y s78 (zqI (fun v84 s85 => ((v84 = 0) → zrc s85 (some a0) 4 (fun a95 => zcl C 177 [.ref a95] Y s85 (zqV (fun s93 => ∃ n, zIt (fun _ _ _ => False) (fun rec102 (p99 : Int32) (p100 : Int32) (s101 : zS) => zrc s101 (some a0) 4 (fun a106 => zcl C 159 [.ref a106] Y s101 (zqI (fun v103 s104 => ((((1 : Int32) <<< (v103 &&& 31)) ≤ p100) → zJ (fun (p111 : Int32) (s112 : zS) => Q (some (.int p111)) s112) (fun (j113 : Int32 → zS → Prop) => ((v37 = 0) → j113 p99 s104) ∧ ((¬ v37 = 0) → j113 (-1 : Int32) s104))) ∧ ((¬ ((1 : Int32) <<< (v103 &&& 31)) ≤ p100) → zrc s104 (some a0) 4 (fun a118 => zcl C 179 [.ref a118, .int p100] Y s104 (zqI (fun v115 s116 => zJ (fun (p122 : Int32) (s123 : zS) => (∀ v125 : Int32, v125 = p100 + (1 : Int32) → rec102 p122 v125 s123)) (fun (j124 : Int32 → zS → Prop) => ((v115 = 0) → j124 p99 s116) ∧ ((¬ v115 = 0) → zrc s116 (some a0) 4 (fun a131 => zcl C 292 [.ref a131, .int p100] Y s116 (zqI (fun v128 s129 => ((¬ v128 = 0) → ((v37 = 0) → (∀ v137 : Int32, v137 = p99 + (1 : Int32) → j124 v137 s129)) ∧ ((¬ v37 = 0) → Q (some (.int p100)) s129)) ∧ ((v128 = 0) → j124 p99 s129)))))))))))))) n (0 : Int32) (0 : Int32) s93)))) ∧ ((¬ v84 = 0) → zgI s85 (some a0) 4 33 (fun v140 => Q (some (.int ((-1000000000 : Int32) - v140))) s85))))))))) (fun (j76 : Int32 → zS → Prop) => zJ (fun  (s146 : zS) => j76 (1 : Int32) s146) (fun (j147 : zS → Prop) => ((¬ v68 = 0) → j147 s62) ∧ ((v68 = 0) → zgI s62 (some a0) 4 32 (fun v149 => ((¬ v149 = 0) → j76 (0 : Int32) s62) ∧ ((v149 = 0) → j147 s62)))))))))))))))) (fun (j46 : Int32 → zS → Prop) => zJ (fun  (s156 : zS) => j46 (1 : Int32) s156) (fun (j157 : zS → Prop) => ((¬ v37 = 0) → j157 s38) ∧ ((v37 = 0) → zrc s38 (some a0) 4 (fun a162 => zcl C 272 [.ref a162, va_rf (some (G.2 25))] Y s38 (zqI (fun v159 s160 => ((v159 = 0) → j46 (0 : Int32) s160) ∧ ((¬ v159 = 0) → j157 s160))))))))))))))) ∧ ((v18 = 0) → zrc s19 (some a0) 4 (fun a170 => zcl C 163 [.ref a170, .int (1 : Int32)] Y s19 (zqI (fun v167 s168 => Q (some (.int v167)) s168)))))))))))
set_option maxHeartbeats 4000000 in
theorem wk285 {l : Launch} {g : zG} {d : Nat} {C : zO} (hG : zGk g) (hC : zSound l g d C) {args : List Value} {Q : zQ} {Y : zY} {σ : zS} (hw : zb285 (zpg g) C args Q Y σ) : zMet l g (d + 1) (⟨"PackingDuelModel", "query", "(I)I"⟩, Cond.code ⟨"PackingDuelModel", "query", "(I)I"⟩ prog_28_method_141_code 5 (Option.some FieldType.int)) args σ Q Y := by
  obtain ⟨a0, x1, rfl, hw⟩ := hw
  refine zof hG (by decide +kernel) [false, false] ⟨rfl, rfl, trivial⟩ (Nat.le_of_ble_eq_true rfl) (ls := [some (va_rf (some a0)), some (.int x1), none, none, none]) rfl ?_
  intro X hX hR hTb hd1 hd2 hl hg hnm
  subst hl
  subst hg
  have hd : zDep X d := ⟨hd1, hd2⟩
  refine z_aload_n hX dX3_query_0 rfl (i := 0) rfl ?_
  refine z_iconst hX (v := (0 : Int32)) dX3_query_1 (by decide) ?_
  obtain ⟨a3, f4, r5, g6, m7, l8, hw⟩ := hw
  refine z_put hX zc4 (k := 5) dX3_query_2 (Nat.le_of_ble_eq_true rfl) (zlk hX q2474) rfl rfl rfl r5 g6 m7 l8 (z_nm (fun s1 e2 => ?_))
  have hw := hw s1 e2
  refine z_iload_n hX dX3_query_5 rfl (i := 1) rfl ?_
  refine z_iconst hX (v := (0 : Int32)) dX3_query_6 (by decide) ?_
  refine z_aload_n hX dX3_query_7 rfl (i := 0) rfl ?_
  obtain ⟨a10, f11, v9, r12, m13, e14, hw⟩ := hw
  refine z_get hX zc4 (k := 28) dX3_query_8 (Nat.le_of_ble_eq_true rfl) (zlk hX q2497) r12 m13 e14 ?_
  refine z_sipush hX (v := (200 : Int32)) dX3_query_11 (by decide) ?_
  refine z_invS hX hd dX3_query_14 (hC 295 _ zm295 _ _ _ _ hw) q3123 q479 zh8 q480 q137 zn295 rfl (Nat.le_of_ble_eq_true rfl) (st := [.int (0 : Int32), .int x1]) rfl (zcs8 (Nat.le_of_ble_eq_true rfl)) rfl (zkI (fun v15 s16 hw => ?_)) (zout hX hR hTb)
  refine z_invS hX hd dX3_query_17 (hC 166 _ zm166 _ _ _ _ hw) q2632 q2633 zh7 q2634 q136 zn166 rfl (Nat.le_of_ble_eq_true rfl) (st := []) rfl (zcs8 (Nat.le_of_ble_eq_true rfl)) rfl (zkI (fun v18 s19 hw => ?_)) (zout hX hR hTb)
  refine z_if_ne hX dX3_query_20 (tgt := 29) rfl (fun c21 => ?_) (fun c21 => ?_)
  · have hw := hw.1 c21
    refine z_aload_n hX dX3_query_29 rfl (i := 0) rfl ?_
    refine z_iconst hX (v := (0 : Int32)) dX3_query_30 (by decide) ?_
    obtain ⟨a24, f25, r26, g27, m28, l29, hw⟩ := hw
    refine z_put hX zc4 (k := 40) dX3_query_31 (Nat.le_of_ble_eq_true rfl) (zlk hX q2509) rfl rfl rfl r26 g27 m28 l29 (z_nm (fun s22 e23 => ?_))
    have hw := hw s22 e23
    refine z_aload_n hX dX3_query_34 rfl (i := 0) rfl ?_
    refine z_iload_n hX dX3_query_35 rfl (i := 1) rfl ?_
    obtain ⟨a33, f34, r35, m36, hw⟩ := hw
    refine z_invV hX hd r35 (ci := 4) rfl rfl m36 dX3_query_36 (hC 265 _ zm265 _ _ _ _ hw) q3026 q3028 qs101 zh7 q3029 q136 zn265 rfl (Nat.le_of_ble_eq_true rfl) (st := []) rfl (zcs8 (Nat.le_of_ble_eq_true rfl)) rfl (zkV (fun s31 hw => ?_)) (zout hX hR hTb)
    refine z_aload_n hX dX3_query_39 rfl (i := 0) rfl ?_
    refine z_ldcwS hX (tx := "first") (j := 24) dX3_query_40 (List.mem_of_getElem? (i := 24) rfl) ?_
    obtain ⟨a40, f41, r42, m43, hw⟩ := hw
    refine z_invV hX hd r42 (ci := 4) rfl rfl m43 dX3_query_43 (hC 272 _ zm272 _ _ _ _ hw) q3055 q3057 qs108 zh7 q3058 q136 zn272 rfl (Nat.le_of_ble_eq_true rfl) (st := []) rfl (zcs8 (Nat.le_of_ble_eq_true rfl)) rfl (zkI (fun v37 s38 hw => ?_)) (zout hX hR hTb)
    refine z_istore_n hX dX3_query_46 rfl (i := 2) (Nat.le_of_ble_eq_true rfl) rfl (ls2 := [some (va_rf (some a0)), some (.int x1), some (.int v37), none, none]) rfl ?_
    refine z_aload_n hX dX3_query_47 rfl (i := 0) rfl ?_
    refine z_iload_n hX dX3_query_48 rfl (i := 2) rfl ?_
    refine zJ_w (P := fun (j : Int32 → zS → Prop) => ∀ (p44 : Int32) (s45 : zS), j p44 s45 → zW X s45 67 [some (va_rf (some a0)), none, some (.int v37), none, none] [.int p44, va_rf (some a0)]) hw (fun p44 s45 hw => ?_) (fun j46 hj46 hw => ?_)
    · refine z_iconst hX (v := (1 : Int32)) dX3_query_67 (by decide) ?_
      obtain ⟨a50, f51, r52, m53, hw⟩ := hw
      refine z_invV hX hd r52 (ci := 4) rfl rfl m53 dX3_query_68 (hC 273 _ zm273 _ _ _ _ hw) q3061 q3063 qs109 zh7 q3064 q136 zn273 rfl (Nat.le_of_ble_eq_true rfl) (st := []) rfl (zcs8 (Nat.le_of_ble_eq_true rfl)) rfl (zkV (fun s48 hw => ?_)) (zout hX hR hTb)
      refine z_aload_n hX dX3_query_71 rfl (i := 0) rfl ?_
      obtain ⟨a57, f58, r59, m60, hw⟩ := hw
      refine z_invV hX hd r59 (ci := 4) rfl rfl m60 dX3_query_72 (hC 275 _ zm275 _ _ _ _ hw) q3069 q3071 qs111 zh7 q3072 q136 zn275 rfl (Nat.le_of_ble_eq_true rfl) (st := []) rfl (zcs8 (Nat.le_of_ble_eq_true rfl)) rfl (zkV (fun s55 hw => ?_)) (zout hX hR hTb)
      refine z_aload_n hX dX3_query_75 rfl (i := 0) rfl ?_
      obtain ⟨a64, f65, r66, m67, hw⟩ := hw
      refine z_invV hX hd r66 (ci := 4) rfl rfl m67 dX3_query_76 (hC 286 _ zm286 _ _ _ _ hw) q3126 q3128 qs121 zh7 q3129 q136 zn286 rfl (Nat.le_of_ble_eq_true rfl) (st := []) rfl (zcs8 (Nat.le_of_ble_eq_true rfl)) rfl (zkV (fun s62 hw => ?_)) (zout hX hR hTb)
      refine z_aload_n hX dX3_query_79 rfl (i := 0) rfl ?_
      refine z_aload_n hX dX3_query_80 rfl (i := 0) rfl ?_
      obtain ⟨a69, f70, v68, r71, m72, e73, hw⟩ := hw
      refine z_get hX zc4 (k := 33) dX3_query_81 (Nat.le_of_ble_eq_true rfl) (zlk hX q2502) r71 m72 e73 ?_
      refine zJ_w (P := fun (j : Int32 → zS → Prop) => ∀ (p74 : Int32) (s75 : zS), j p74 s75 → zW X s75 99 [some (va_rf (some a0)), none, some (.int v37), none, none] [.int p74, va_rf (some a0)]) hw (fun p74 s75 hw => ?_) (fun j76 hj76 hw => ?_)
      · refine z_iconst hX (v := (1 : Int32)) dX3_query_99 (by decide) ?_
        obtain ⟨a80, f81, r82, m83, hw⟩ := hw
        refine z_invV hX hd r82 (ci := 4) rfl rfl m83 dX3_query_100 (hC 273 _ zm273 _ _ _ _ hw) q3061 q3063 qs109 zh7 q3064 q136 zn273 rfl (Nat.le_of_ble_eq_true rfl) (st := []) rfl (zcs8 (Nat.le_of_ble_eq_true rfl)) rfl (zkV (fun s78 hw => ?_)) (zout hX hR hTb)
        refine z_aload_n hX dX3_query_103 rfl (i := 0) rfl ?_
        obtain ⟨a87, f88, r89, m90, hw⟩ := hw
        refine z_invV hX hd r89 (ci := 4) rfl rfl m90 dX3_query_104 (hC 284 _ zm284 _ _ _ _ hw) q3115 q3117 qs120 zh7 q3118 q136 zn284 rfl (Nat.le_of_ble_eq_true rfl) (st := []) rfl (zcs8 (Nat.le_of_ble_eq_true rfl)) rfl (zkI (fun v84 s85 hw => ?_)) (zout hX hR hTb)
        refine z_if_eq hX dX3_query_107 (tgt := 119) rfl (fun c91 => ?_) (fun c91 => ?_)
        · have hw := hw.1 c91
          refine z_iconst hX (v := (0 : Int32)) dX3_query_119 (by decide) ?_
          refine z_istore_n hX dX3_query_120 rfl (i := 3) (Nat.le_of_ble_eq_true rfl) rfl (ls2 := [some (va_rf (some a0)), none, some (.int v37), some (.int (0 : Int32)), none]) rfl ?_
          refine z_aload_n hX dX3_query_121 rfl (i := 0) rfl ?_
          obtain ⟨a95, f96, r97, m98, hw⟩ := hw
          refine z_invV hX hd r97 (ci := 4) rfl rfl m98 dX3_query_122 (hC 177 _ zm177 _ _ _ _ hw) q2675 q2677 qs57 zh7 q2678 q136 zn177 rfl (Nat.le_of_ble_eq_true rfl) (st := []) rfl (zcs8 (Nat.le_of_ble_eq_true rfl)) rfl (zkV (fun s93 hw => ?_)) (zout hX hR hTb)
          refine z_iconst hX (v := (0 : Int32)) dX3_query_125 (by decide) ?_
          refine z_istore hX dX3_query_126 (i := 4) (Nat.le_of_ble_eq_true rfl) rfl (ls2 := [some (va_rf (some a0)), none, some (.int v37), some (.int (0 : Int32)), some (.int (0 : Int32))]) rfl ?_
          obtain ⟨n139, hw⟩ := hw
          refine zIt_w (P := fun (j : Int32 → Int32 → zS → Prop) => ∀ (p99 : Int32) (p100 : Int32) (s101 : zS), j p99 p100 s101 → zW X s101 128 [some (va_rf (some a0)), none, some (.int v37), some (.int p99), some (.int p100)] []) (fun _ _ _ h => h.elim) (fun rec102 hrec102 p99 p100 s101 hw => ?_) n139 _ _ _ hw
          refine z_iload hX dX3_query_128 (i := 4) rfl ?_
          refine z_iconst hX (v := (1 : Int32)) dX3_query_130 (by decide) ?_
          refine z_aload_n hX dX3_query_131 rfl (i := 0) rfl ?_
          obtain ⟨a106, f107, r108, m109, hw⟩ := hw
          refine z_invV hX hd r108 (ci := 4) rfl rfl m109 dX3_query_132 (hC 159 _ zm159 _ _ _ _ hw) q2605 q2607 qs46 zh7 q2608 q136 zn159 rfl (Nat.le_of_ble_eq_true rfl) (st := [.int (1 : Int32), .int p100]) rfl (zcs8 (Nat.le_of_ble_eq_true rfl)) rfl (zkI (fun v103 s104 hw => ?_)) (zout hX hR hTb)
          refine z_ishl hX dX3_query_135 ?_
          refine z_icmp_ge hX dX3_query_136 (tgt := 176) rfl (fun c110 => ?_) (fun c110 => ?_)
          · have hw := hw.1 c110
            refine z_iload_n hX dX3_query_176 rfl (i := 2) rfl ?_
            refine zJ_w (P := fun (j : Int32 → zS → Prop) => ∀ (p111 : Int32) (s112 : zS), j p111 s112 → zW X s112 185 [none, none, none, none, none] [.int p111]) hw (fun p111 s112 hw => ?_) (fun j113 hj113 hw => ?_)
            · exact z_ireturn hX hR dX3_query_185 rfl hw
            · refine z_if_eq hX dX3_query_177 (tgt := 184) rfl (fun c114 => ?_) (fun c114 => ?_)
              · have hw := hw.1 c114
                refine z_iload_n hX dX3_query_184 rfl (i := 3) rfl ?_
                refine z_sub (ls' := [none, none, none, none, none]) (zsN (zsN (zsN (zsN (zsN (zs0)))))) ?_
                exact hj113 _ _ hw
              · have hw := hw.2 c114
                refine z_iconst hX (v := (-1 : Int32)) dX3_query_180 (by decide) ?_
                refine z_goto hX dX3_query_181 (tgt := 185) rfl ?_
                refine z_sub (ls' := [none, none, none, none, none]) (zsN (zsN (zsN (zsN (zsN (zs0)))))) ?_
                exact hj113 _ _ hw
          · have hw := hw.2 c110
            refine z_aload_n hX dX3_query_139 rfl (i := 0) rfl ?_
            refine z_iload hX dX3_query_140 (i := 4) rfl ?_
            obtain ⟨a118, f119, r120, m121, hw⟩ := hw
            refine z_invV hX hd r120 (ci := 4) rfl rfl m121 dX3_query_142 (hC 179 _ zm179 _ _ _ _ hw) q2683 q2685 qs59 zh7 q2686 q136 zn179 rfl (Nat.le_of_ble_eq_true rfl) (st := []) rfl (zcs8 (Nat.le_of_ble_eq_true rfl)) rfl (zkI (fun v115 s116 hw => ?_)) (zout hX hR hTb)
            refine zJ_w (P := fun (j : Int32 → zS → Prop) => ∀ (p122 : Int32) (s123 : zS), j p122 s123 → zW X s123 170 [some (va_rf (some a0)), none, some (.int v37), some (.int p122), some (.int p100)] []) hw (fun p122 s123 hw => ?_) (fun j124 hj124 hw => ?_)
            · obtain ⟨v125, e126⟩ : ∃ y : Int32, y = p100 + (1 : Int32) := ⟨_, rfl⟩
              refine z_iinc hX dX3_query_170 (i := 4) (v := v125) rfl (by rw [e126]; rfl) (Nat.le_of_ble_eq_true rfl) rfl (ls2 := [some (va_rf (some a0)), none, some (.int v37), some (.int p122), some (.int v125)]) rfl ?_
              have hw := hw v125 e126
              refine z_goto hX dX3_query_173 (tgt := 128) rfl ?_
              exact hrec102 _ _ _ hw
            · refine z_if_eq hX dX3_query_145 (tgt := 170) rfl (fun c127 => ?_) (fun c127 => ?_)
              · have hw := hw.1 c127
                exact hj124 _ _ hw
              · have hw := hw.2 c127
                refine z_aload_n hX dX3_query_148 rfl (i := 0) rfl ?_
                refine z_iload hX dX3_query_149 (i := 4) rfl ?_
                obtain ⟨a131, f132, r133, m134, hw⟩ := hw
                refine z_invV hX hd r133 (ci := 4) rfl rfl m134 dX3_query_151 (hC 292 _ zm292 _ _ _ _ hw) q3153 q3155 qs127 zh7 q3156 q136 zn292 rfl (Nat.le_of_ble_eq_true rfl) (st := []) rfl (zcs8 (Nat.le_of_ble_eq_true rfl)) rfl (zkI (fun v128 s129 hw => ?_)) (zout hX hR hTb)
                refine z_if_ne hX dX3_query_154 (tgt := 160) rfl (fun c135 => ?_) (fun c135 => ?_)
                · have hw := hw.1 c135
                  refine z_iload_n hX dX3_query_160 rfl (i := 2) rfl ?_
                  refine z_if_eq hX dX3_query_161 (tgt := 167) rfl (fun c136 => ?_) (fun c136 => ?_)
                  · have hw := hw.1 c136
                    obtain ⟨v137, e138⟩ : ∃ y : Int32, y = p99 + (1 : Int32) := ⟨_, rfl⟩
                    refine z_iinc hX dX3_query_167 (i := 3) (v := v137) rfl (by rw [e138]; rfl) (Nat.le_of_ble_eq_true rfl) rfl (ls2 := [some (va_rf (some a0)), none, some (.int v37), some (.int v137), some (.int p100)]) rfl ?_
                    have hw := hw v137 e138
                    exact hj124 _ _ hw
                  · have hw := hw.2 c136
                    refine z_iload hX dX3_query_164 (i := 4) rfl ?_
                    exact z_ireturn hX hR dX3_query_166 rfl hw
                · have hw := hw.2 c135
                  refine z_goto hX dX3_query_157 (tgt := 170) rfl ?_
                  exact hj124 _ _ hw
        · have hw := hw.2 c91
          refine z_ldcw hX dX3_query_110 q2962 ?_
          refine z_aload_n hX dX3_query_113 rfl (i := 0) rfl ?_
          obtain ⟨a141, f142, v140, r143, m144, e145, hw⟩ := hw
          refine z_get hX zc4 (k := 33) dX3_query_114 (Nat.le_of_ble_eq_true rfl) (zlk hX q2502) r143 m144 e145 ?_
          refine z_isub hX dX3_query_117 ?_
          exact z_ireturn hX hR dX3_query_118 rfl hw
      · refine zJ_w (P := fun (j : zS → Prop) => ∀  (s146 : zS), j  s146 → zW X s146 94 [some (va_rf (some a0)), none, some (.int v37), none, none] [va_rf (some a0)]) hw (fun  s146 hw => ?_) (fun j147 hj147 hw => ?_)
        · refine z_iconst hX (v := (1 : Int32)) dX3_query_94 (by decide) ?_
          refine z_goto hX dX3_query_95 (tgt := 99) rfl ?_
          exact hj76 _ _ hw
        · refine z_if_ne hX dX3_query_84 (tgt := 94) rfl (fun c148 => ?_) (fun c148 => ?_)
          · have hw := hw.1 c148
            exact hj147  _ hw
          · have hw := hw.2 c148
            refine z_aload_n hX dX3_query_87 rfl (i := 0) rfl ?_
            obtain ⟨a150, f151, v149, r152, m153, e154, hw⟩ := hw
            refine z_get hX zc4 (k := 32) dX3_query_88 (Nat.le_of_ble_eq_true rfl) (zlk hX q2501) r152 m153 e154 ?_
            refine z_if_ne hX dX3_query_91 (tgt := 98) rfl (fun c155 => ?_) (fun c155 => ?_)
            · have hw := hw.1 c155
              refine z_iconst hX (v := (0 : Int32)) dX3_query_98 (by decide) ?_
              exact hj76 _ _ hw
            · have hw := hw.2 c155
              exact hj147  _ hw
    · refine zJ_w (P := fun (j : zS → Prop) => ∀  (s156 : zS), j  s156 → zW X s156 62 [some (va_rf (some a0)), none, some (.int v37), none, none] [va_rf (some a0)]) hw (fun  s156 hw => ?_) (fun j157 hj157 hw => ?_)
      · refine z_iconst hX (v := (1 : Int32)) dX3_query_62 (by decide) ?_
        refine z_goto hX dX3_query_63 (tgt := 67) rfl ?_
        exact hj46 _ _ hw
      · refine z_if_ne hX dX3_query_49 (tgt := 62) rfl (fun c158 => ?_) (fun c158 => ?_)
        · have hw := hw.1 c158
          refine z_sub (ls' := [some (va_rf (some a0)), none, some (.int v37), none, none]) (zsS (zsN (zsS (zsN (zsN (zs0)))))) ?_
          exact hj157  _ hw
        · have hw := hw.2 c158
          refine z_aload_n hX dX3_query_52 rfl (i := 0) rfl ?_
          refine z_ldcwS hX (tx := "many") (j := 25) dX3_query_53 (List.mem_of_getElem? (i := 25) rfl) ?_
          obtain ⟨a162, f163, r164, m165, hw⟩ := hw
          refine z_invV hX hd r164 (ci := 4) rfl rfl m165 dX3_query_56 (hC 272 _ zm272 _ _ _ _ hw) q3055 q3057 qs108 zh7 q3058 q136 zn272 rfl (Nat.le_of_ble_eq_true rfl) (st := [va_rf (some a0)]) rfl (zcs8 (Nat.le_of_ble_eq_true rfl)) rfl (zkI (fun v159 s160 hw => ?_)) (zout hX hR hTb)
          refine z_if_eq hX dX3_query_59 (tgt := 66) rfl (fun c166 => ?_) (fun c166 => ?_)
          · have hw := hw.1 c166
            refine z_iconst hX (v := (0 : Int32)) dX3_query_66 (by decide) ?_
            refine z_sub (ls' := [some (va_rf (some a0)), none, some (.int v37), none, none]) (zsS (zsN (zsS (zsN (zsN (zs0)))))) ?_
            exact hj46 _ _ hw
          · have hw := hw.2 c166
            refine z_sub (ls' := [some (va_rf (some a0)), none, some (.int v37), none, none]) (zsS (zsN (zsS (zsN (zsN (zs0)))))) ?_
            exact hj157  _ hw
  · have hw := hw.2 c21
    refine z_aload_n hX dX3_query_23 rfl (i := 0) rfl ?_
    refine z_iconst hX (v := (1 : Int32)) dX3_query_24 (by decide) ?_
    obtain ⟨a170, f171, r172, m173, hw⟩ := hw
    refine z_invV hX hd r172 (ci := 4) rfl rfl m173 dX3_query_25 (hC 163 _ zm163 _ _ _ _ hw) q2620 q2622 qs49 zh7 q2623 q136 zn163 rfl (Nat.le_of_ble_eq_true rfl) (st := []) rfl (zcs8 (Nat.le_of_ble_eq_true rfl)) rfl (zkI (fun v167 s168 hw => ?_)) (zout hX hR hTb)
    exact z_ireturn hX hR dX3_query_28 rfl hw
abbrev cX3_compileTest : ByteArray := prog_28_method_137_code
def yX3_compileTest : MethodName := ⟨RX3, "compileTest", "()V"⟩
def dkwX3_compileTest_1 : List UInt8 := [167, 255, 236, 177]
abbrev dktX3_compileTest_1 : List UInt8 := dkwX3_compileTest_1 ++ []
def dkwX3_compileTest_0 : List UInt8 := [42, 182, 2, 5, 42, 19, 2, 8, 182, 1, 215, 153, 0, 16, 42, 182, 2, 5, 42, 16, 231, 182, 1, 242]
abbrev dktX3_compileTest_0 : List UInt8 := dkwX3_compileTest_0 ++ dktX3_compileTest_1
theorem dksX3_compileTest_0 : cX3_compileTest.data.toList.drop 0 = dktX3_compileTest_0 := by decide +kernel
theorem dksX3_compileTest_1 : cX3_compileTest.data.toList.drop 24 = dktX3_compileTest_1 := dk_seg dksX3_compileTest_0 24 rfl rfl
theorem dX3_compileTest_0 : decode cX3_compileTest 0 = .ok (.aload_n 0, 1) := dk_42 (dk_at dksX3_compileTest_0 0 rfl rfl)
theorem dX3_compileTest_1 : decode cX3_compileTest 1 = .ok (.invokevirtual 517, 3) := dk_182 2 5 (dk_at dksX3_compileTest_0 1 rfl rfl)
theorem dX3_compileTest_4 : decode cX3_compileTest 4 = .ok (.aload_n 0, 1) := dk_42 (dk_at dksX3_compileTest_0 4 rfl rfl)
theorem dX3_compileTest_5 : decode cX3_compileTest 5 = .ok (.ldc_w 520, 3) := dk_19 2 8 (dk_at dksX3_compileTest_0 5 rfl rfl)
theorem dX3_compileTest_8 : decode cX3_compileTest 8 = .ok (.invokevirtual 471, 3) := dk_182 1 215 (dk_at dksX3_compileTest_0 8 rfl rfl)
theorem dX3_compileTest_11 : decode cX3_compileTest 11 = .ok (.ifCond .eq 16, 3) := dk_153 0 16 (dk_at dksX3_compileTest_0 11 rfl rfl)
theorem dX3_compileTest_14 : decode cX3_compileTest 14 = .ok (.aload_n 0, 1) := dk_42 (dk_at dksX3_compileTest_0 14 rfl rfl)
theorem dX3_compileTest_15 : decode cX3_compileTest 15 = .ok (.invokevirtual 517, 3) := dk_182 2 5 (dk_at dksX3_compileTest_0 15 rfl rfl)
theorem dX3_compileTest_18 : decode cX3_compileTest 18 = .ok (.aload_n 0, 1) := dk_42 (dk_at dksX3_compileTest_0 18 rfl rfl)
theorem dX3_compileTest_19 : decode cX3_compileTest 19 = .ok (.bipush (-25), 2) := dk_16 231 (dk_at dksX3_compileTest_0 19 rfl rfl)
theorem dX3_compileTest_21 : decode cX3_compileTest 21 = .ok (.invokevirtual 498, 3) := dk_182 1 242 (dk_at dksX3_compileTest_0 21 rfl rfl)
theorem dX3_compileTest_24 : decode cX3_compileTest 24 = .ok (.goto (-20), 3) := dk_167 255 236 (dk_at dksX3_compileTest_1 0 rfl rfl)
theorem dX3_compileTest_27 : decode cX3_compileTest 27 = .ok (.return_, 1) := dk_177 (dk_at dksX3_compileTest_1 3 rfl rfl)
/-- PackingDuelModel.compileTest()V -/
def zb286 (G : zPg) (C : zO) (args : List Value) (Q : zQ) (Y : zY) (σ : zS) : Prop := ∃ (a0 : Nat), args = [.ref a0] ∧ (zrc σ (some a0) 4 (fun a4 => zcl C 287 [.ref a4] Y σ (zqV (fun s2 => ∃ n, zIt (fun  _ => False) (fun rec9  (s8 : zS) => zrc s8 (some a0) 4 (fun a13 => zcl C 278 [.ref a13, va_rf (some (G.2 28))] Y s8 (zqI (fun v10 s11 => ((v10 = 0) → Q none s11) ∧ ((¬ v10 = 0) → zrc s11 (some a0) 4 (fun a21 => zcl C 287 [.ref a21] Y s11 (zqV (fun s19 => zrc s19 (some a0) 4 (fun a28 => zcl C 290 [.ref a28, .int (-25 : Int32)] Y s19 (zqV (fun s26 => rec9 s26))))))))))) n  s2))))
set_option maxHeartbeats 4000000 in
theorem wk286 {l : Launch} {g : zG} {d : Nat} {C : zO} (hG : zGk g) (hC : zSound l g d C) {args : List Value} {Q : zQ} {Y : zY} {σ : zS} (hw : zb286 (zpg g) C args Q Y σ) : zMet l g (d + 1) (⟨"PackingDuelModel", "compileTest", "()V"⟩, Cond.code ⟨"PackingDuelModel", "compileTest", "()V"⟩ prog_28_method_137_code 1 (Option.none : Option FieldType)) args σ Q Y := by
  obtain ⟨a0, rfl, hw⟩ := hw
  refine zof hG (by decide +kernel) [false] ⟨rfl, trivial⟩ (Nat.le_of_ble_eq_true rfl) (ls := [some (va_rf (some a0))]) rfl ?_
  intro X hX hR hTb hd1 hd2 hl hg hnm
  subst hl
  subst hg
  have hd : zDep X d := ⟨hd1, hd2⟩
  refine z_aload_n hX dX3_compileTest_0 rfl (i := 0) rfl ?_
  obtain ⟨a4, f5, r6, m7, hw⟩ := hw
  refine z_invV hX hd r6 (ci := 4) rfl rfl m7 dX3_compileTest_1 (hC 287 _ zm287 _ _ _ _ hw) q3130 q3132 qs122 zh7 q3133 q136 zn287 rfl (Nat.le_of_ble_eq_true rfl) (st := []) rfl (zcs8 (Nat.le_of_ble_eq_true rfl)) rfl (zkV (fun s2 hw => ?_)) (zout hX hR hTb)
  obtain ⟨n32, hw⟩ := hw
  refine zIt_w (P := fun (j : zS → Prop) => ∀  (s8 : zS), j  s8 → zW X s8 4 [some (va_rf (some a0))] []) (fun  _ h => h.elim) (fun rec9 hrec9  s8 hw => ?_) n32  _ hw
  refine z_aload_n hX dX3_compileTest_4 rfl (i := 0) rfl ?_
  refine z_ldcwS hX (tx := "or") (j := 28) dX3_compileTest_5 (List.mem_of_getElem? (i := 28) rfl) ?_
  obtain ⟨a13, f14, r15, m16, hw⟩ := hw
  refine z_invV hX hd r15 (ci := 4) rfl rfl m16 dX3_compileTest_8 (hC 278 _ zm278 _ _ _ _ hw) q3088 q3090 qs114 zh7 q3091 q136 zn278 rfl (Nat.le_of_ble_eq_true rfl) (st := []) rfl (zcs8 (Nat.le_of_ble_eq_true rfl)) rfl (zkI (fun v10 s11 hw => ?_)) (zout hX hR hTb)
  refine z_if_eq hX dX3_compileTest_11 (tgt := 27) rfl (fun c17 => ?_) (fun c17 => ?_)
  · have hw := hw.1 c17
    exact z_return hX hR dX3_compileTest_27 hw
  · have hw := hw.2 c17
    refine z_aload_n hX dX3_compileTest_14 rfl (i := 0) rfl ?_
    obtain ⟨a21, f22, r23, m24, hw⟩ := hw
    refine z_invV hX hd r23 (ci := 4) rfl rfl m24 dX3_compileTest_15 (hC 287 _ zm287 _ _ _ _ hw) q3130 q3132 qs122 zh7 q3133 q136 zn287 rfl (Nat.le_of_ble_eq_true rfl) (st := []) rfl (zcs8 (Nat.le_of_ble_eq_true rfl)) rfl (zkV (fun s19 hw => ?_)) (zout hX hR hTb)
    refine z_aload_n hX dX3_compileTest_18 rfl (i := 0) rfl ?_
    refine z_bipush hX (v := (-25 : Int32)) dX3_compileTest_19 (by decide) ?_
    obtain ⟨a28, f29, r30, m31, hw⟩ := hw
    refine z_invV hX hd r30 (ci := 4) rfl rfl m31 dX3_compileTest_21 (hC 290 _ zm290 _ _ _ _ hw) q3143 q3145 qs125 zh7 q3146 q136 zn290 rfl (Nat.le_of_ble_eq_true rfl) (st := []) rfl (zcs8 (Nat.le_of_ble_eq_true rfl)) rfl (zkV (fun s26 hw => ?_)) (zout hX hR hTb)
    refine z_goto hX dX3_compileTest_24 (tgt := 4) rfl ?_
    exact hrec9  _ hw
abbrev cX3_compileConjunction : ByteArray := prog_28_method_136_code
def yX3_compileConjunction : MethodName := ⟨RX3, "compileConjunction", "()V"⟩
def dkwX3_compileConjunction_1 : List UInt8 := [167, 255, 236, 177]
abbrev dktX3_compileConjunction_1 : List UInt8 := dkwX3_compileConjunction_1 ++ []
def dkwX3_compileConjunction_0 : List UInt8 := [42, 182, 1, 250, 42, 19, 2, 3, 182, 1, 215, 153, 0, 16, 42, 182, 1, 250, 42, 16, 232, 182, 1, 242]
abbrev dktX3_compileConjunction_0 : List UInt8 := dkwX3_compileConjunction_0 ++ dktX3_compileConjunction_1
theorem dksX3_compileConjunction_0 : cX3_compileConjunction.data.toList.drop 0 = dktX3_compileConjunction_0 := by decide +kernel
theorem dksX3_compileConjunction_1 : cX3_compileConjunction.data.toList.drop 24 = dktX3_compileConjunction_1 := dk_seg dksX3_compileConjunction_0 24 rfl rfl
theorem dX3_compileConjunction_0 : decode cX3_compileConjunction 0 = .ok (.aload_n 0, 1) := dk_42 (dk_at dksX3_compileConjunction_0 0 rfl rfl)
theorem dX3_compileConjunction_1 : decode cX3_compileConjunction 1 = .ok (.invokevirtual 506, 3) := dk_182 1 250 (dk_at dksX3_compileConjunction_0 1 rfl rfl)
theorem dX3_compileConjunction_4 : decode cX3_compileConjunction 4 = .ok (.aload_n 0, 1) := dk_42 (dk_at dksX3_compileConjunction_0 4 rfl rfl)
theorem dX3_compileConjunction_5 : decode cX3_compileConjunction 5 = .ok (.ldc_w 515, 3) := dk_19 2 3 (dk_at dksX3_compileConjunction_0 5 rfl rfl)
theorem dX3_compileConjunction_8 : decode cX3_compileConjunction 8 = .ok (.invokevirtual 471, 3) := dk_182 1 215 (dk_at dksX3_compileConjunction_0 8 rfl rfl)
theorem dX3_compileConjunction_11 : decode cX3_compileConjunction 11 = .ok (.ifCond .eq 16, 3) := dk_153 0 16 (dk_at dksX3_compileConjunction_0 11 rfl rfl)
theorem dX3_compileConjunction_14 : decode cX3_compileConjunction 14 = .ok (.aload_n 0, 1) := dk_42 (dk_at dksX3_compileConjunction_0 14 rfl rfl)
theorem dX3_compileConjunction_15 : decode cX3_compileConjunction 15 = .ok (.invokevirtual 506, 3) := dk_182 1 250 (dk_at dksX3_compileConjunction_0 15 rfl rfl)
theorem dX3_compileConjunction_18 : decode cX3_compileConjunction 18 = .ok (.aload_n 0, 1) := dk_42 (dk_at dksX3_compileConjunction_0 18 rfl rfl)
theorem dX3_compileConjunction_19 : decode cX3_compileConjunction 19 = .ok (.bipush (-24), 2) := dk_16 232 (dk_at dksX3_compileConjunction_0 19 rfl rfl)
theorem dX3_compileConjunction_21 : decode cX3_compileConjunction 21 = .ok (.invokevirtual 498, 3) := dk_182 1 242 (dk_at dksX3_compileConjunction_0 21 rfl rfl)
theorem dX3_compileConjunction_24 : decode cX3_compileConjunction 24 = .ok (.goto (-20), 3) := dk_167 255 236 (dk_at dksX3_compileConjunction_1 0 rfl rfl)
theorem dX3_compileConjunction_27 : decode cX3_compileConjunction 27 = .ok (.return_, 1) := dk_177 (dk_at dksX3_compileConjunction_1 3 rfl rfl)
/-- PackingDuelModel.compileConjunction()V -/
def zb287 (G : zPg) (C : zO) (args : List Value) (Q : zQ) (Y : zY) (σ : zS) : Prop := ∃ (a0 : Nat), args = [.ref a0] ∧ (zrc σ (some a0) 4 (fun a4 => zcl C 288 [.ref a4] Y σ (zqV (fun s2 => ∃ n, zIt (fun  _ => False) (fun rec9  (s8 : zS) => zrc s8 (some a0) 4 (fun a13 => zcl C 278 [.ref a13, va_rf (some (G.2 27))] Y s8 (zqI (fun v10 s11 => ((v10 = 0) → Q none s11) ∧ ((¬ v10 = 0) → zrc s11 (some a0) 4 (fun a21 => zcl C 288 [.ref a21] Y s11 (zqV (fun s19 => zrc s19 (some a0) 4 (fun a28 => zcl C 290 [.ref a28, .int (-24 : Int32)] Y s19 (zqV (fun s26 => rec9 s26))))))))))) n  s2))))
set_option maxHeartbeats 4000000 in
theorem wk287 {l : Launch} {g : zG} {d : Nat} {C : zO} (hG : zGk g) (hC : zSound l g d C) {args : List Value} {Q : zQ} {Y : zY} {σ : zS} (hw : zb287 (zpg g) C args Q Y σ) : zMet l g (d + 1) (⟨"PackingDuelModel", "compileConjunction", "()V"⟩, Cond.code ⟨"PackingDuelModel", "compileConjunction", "()V"⟩ prog_28_method_136_code 1 (Option.none : Option FieldType)) args σ Q Y := by
  obtain ⟨a0, rfl, hw⟩ := hw
  refine zof hG (by decide +kernel) [false] ⟨rfl, trivial⟩ (Nat.le_of_ble_eq_true rfl) (ls := [some (va_rf (some a0))]) rfl ?_
  intro X hX hR hTb hd1 hd2 hl hg hnm
  subst hl
  subst hg
  have hd : zDep X d := ⟨hd1, hd2⟩
  refine z_aload_n hX dX3_compileConjunction_0 rfl (i := 0) rfl ?_
  obtain ⟨a4, f5, r6, m7, hw⟩ := hw
  refine z_invV hX hd r6 (ci := 4) rfl rfl m7 dX3_compileConjunction_1 (hC 288 _ zm288 _ _ _ _ hw) q3134 q3136 qs123 zh7 q3137 q136 zn288 rfl (Nat.le_of_ble_eq_true rfl) (st := []) rfl (zcs8 (Nat.le_of_ble_eq_true rfl)) rfl (zkV (fun s2 hw => ?_)) (zout hX hR hTb)
  obtain ⟨n32, hw⟩ := hw
  refine zIt_w (P := fun (j : zS → Prop) => ∀  (s8 : zS), j  s8 → zW X s8 4 [some (va_rf (some a0))] []) (fun  _ h => h.elim) (fun rec9 hrec9  s8 hw => ?_) n32  _ hw
  refine z_aload_n hX dX3_compileConjunction_4 rfl (i := 0) rfl ?_
  refine z_ldcwS hX (tx := "and") (j := 27) dX3_compileConjunction_5 (List.mem_of_getElem? (i := 27) rfl) ?_
  obtain ⟨a13, f14, r15, m16, hw⟩ := hw
  refine z_invV hX hd r15 (ci := 4) rfl rfl m16 dX3_compileConjunction_8 (hC 278 _ zm278 _ _ _ _ hw) q3088 q3090 qs114 zh7 q3091 q136 zn278 rfl (Nat.le_of_ble_eq_true rfl) (st := []) rfl (zcs8 (Nat.le_of_ble_eq_true rfl)) rfl (zkI (fun v10 s11 hw => ?_)) (zout hX hR hTb)
  refine z_if_eq hX dX3_compileConjunction_11 (tgt := 27) rfl (fun c17 => ?_) (fun c17 => ?_)
  · have hw := hw.1 c17
    exact z_return hX hR dX3_compileConjunction_27 hw
  · have hw := hw.2 c17
    refine z_aload_n hX dX3_compileConjunction_14 rfl (i := 0) rfl ?_
    obtain ⟨a21, f22, r23, m24, hw⟩ := hw
    refine z_invV hX hd r23 (ci := 4) rfl rfl m24 dX3_compileConjunction_15 (hC 288 _ zm288 _ _ _ _ hw) q3134 q3136 qs123 zh7 q3137 q136 zn288 rfl (Nat.le_of_ble_eq_true rfl) (st := []) rfl (zcs8 (Nat.le_of_ble_eq_true rfl)) rfl (zkV (fun s19 hw => ?_)) (zout hX hR hTb)
    refine z_aload_n hX dX3_compileConjunction_18 rfl (i := 0) rfl ?_
    refine z_bipush hX (v := (-24 : Int32)) dX3_compileConjunction_19 (by decide) ?_
    obtain ⟨a28, f29, r30, m31, hw⟩ := hw
    refine z_invV hX hd r30 (ci := 4) rfl rfl m31 dX3_compileConjunction_21 (hC 290 _ zm290 _ _ _ _ hw) q3143 q3145 qs125 zh7 q3146 q136 zn290 rfl (Nat.le_of_ble_eq_true rfl) (st := []) rfl (zcs8 (Nat.le_of_ble_eq_true rfl)) rfl (zkV (fun s26 hw => ?_)) (zout hX hR hTb)
    refine z_goto hX dX3_compileConjunction_24 (tgt := 4) rfl ?_
    exact hrec9  _ hw
abbrev cX3_compileFactor : ByteArray := prog_28_method_135_code
def yX3_compileFactor : MethodName := ⟨RX3, "compileFactor", "()V"⟩
def dkwX3_compileFactor_6 : List UInt8 := [167, 0, 4, 3, 4, 182, 1, 178, 42, 182, 1, 181, 42, 182, 2, 0, 42, 27, 182, 1, 242, 177]
abbrev dktX3_compileFactor_6 : List UInt8 := dkwX3_compileFactor_6 ++ []
def dkwX3_compileFactor_5 : List UInt8 := [167, 0, 5, 16, 234, 60, 42, 27, 16, 234, 160, 0, 12, 42, 16, 62, 182, 1, 184, 153, 0, 7, 4]
abbrev dktX3_compileFactor_5 : List UInt8 := dkwX3_compileFactor_5 ++ dktX3_compileFactor_6
def dkwX3_compileFactor_4 : List UInt8 := [16, 60, 182, 1, 184, 153, 0, 8, 16, 236, 167, 0, 19, 42, 16, 61, 182, 1, 184, 153, 0, 8, 16, 235]
abbrev dktX3_compileFactor_4 : List UInt8 := dkwX3_compileFactor_4 ++ dktX3_compileFactor_5
def dkwX3_compileFactor_3 : List UInt8 := [16, 41, 182, 1, 201, 42, 89, 180, 1, 155, 4, 100, 181, 1, 155, 167, 0, 76, 42, 182, 2, 0, 42]
abbrev dktX3_compileFactor_3 : List UInt8 := dkwX3_compileFactor_3 ++ dktX3_compileFactor_4
def dkwX3_compileFactor_2 : List UInt8 := [16, 40, 182, 1, 184, 153, 0, 37, 42, 182, 1, 247, 42, 180, 1, 152, 154, 0, 7, 42, 182, 1, 253, 42]
abbrev dktX3_compileFactor_2 : List UInt8 := dkwX3_compileFactor_2 ++ dktX3_compileFactor_3
def dkwX3_compileFactor_1 : List UInt8 := [182, 1, 250, 42, 16, 233, 182, 1, 242, 42, 89, 180, 1, 155, 4, 100, 181, 1, 155, 167, 0, 119, 42]
abbrev dktX3_compileFactor_1 : List UInt8 := dkwX3_compileFactor_1 ++ dktX3_compileFactor_2
def dkwX3_compileFactor_0 : List UInt8 := [42, 19, 1, 245, 182, 1, 174, 153, 0, 37, 42, 182, 1, 247, 42, 180, 1, 152, 154, 0, 7, 42]
abbrev dktX3_compileFactor_0 : List UInt8 := dkwX3_compileFactor_0 ++ dktX3_compileFactor_1
theorem dksX3_compileFactor_0 : cX3_compileFactor.data.toList.drop 0 = dktX3_compileFactor_0 := by decide +kernel
theorem dksX3_compileFactor_1 : cX3_compileFactor.data.toList.drop 22 = dktX3_compileFactor_1 := dk_seg dksX3_compileFactor_0 22 rfl rfl
theorem dksX3_compileFactor_2 : cX3_compileFactor.data.toList.drop 45 = dktX3_compileFactor_2 := dk_seg dksX3_compileFactor_1 23 rfl rfl
theorem dksX3_compileFactor_3 : cX3_compileFactor.data.toList.drop 69 = dktX3_compileFactor_3 := dk_seg dksX3_compileFactor_2 24 rfl rfl
theorem dksX3_compileFactor_4 : cX3_compileFactor.data.toList.drop 92 = dktX3_compileFactor_4 := dk_seg dksX3_compileFactor_3 23 rfl rfl
theorem dksX3_compileFactor_5 : cX3_compileFactor.data.toList.drop 116 = dktX3_compileFactor_5 := dk_seg dksX3_compileFactor_4 24 rfl rfl
theorem dksX3_compileFactor_6 : cX3_compileFactor.data.toList.drop 139 = dktX3_compileFactor_6 := dk_seg dksX3_compileFactor_5 23 rfl rfl
theorem dX3_compileFactor_0 : decode cX3_compileFactor 0 = .ok (.aload_n 0, 1) := dk_42 (dk_at dksX3_compileFactor_0 0 rfl rfl)
theorem dX3_compileFactor_1 : decode cX3_compileFactor 1 = .ok (.ldc_w 501, 3) := dk_19 1 245 (dk_at dksX3_compileFactor_0 1 rfl rfl)
theorem dX3_compileFactor_4 : decode cX3_compileFactor 4 = .ok (.invokevirtual 430, 3) := dk_182 1 174 (dk_at dksX3_compileFactor_0 4 rfl rfl)
theorem dX3_compileFactor_7 : decode cX3_compileFactor 7 = .ok (.ifCond .eq 37, 3) := dk_153 0 37 (dk_at dksX3_compileFactor_0 7 rfl rfl)
theorem dX3_compileFactor_10 : decode cX3_compileFactor 10 = .ok (.aload_n 0, 1) := dk_42 (dk_at dksX3_compileFactor_0 10 rfl rfl)
theorem dX3_compileFactor_11 : decode cX3_compileFactor 11 = .ok (.invokevirtual 503, 3) := dk_182 1 247 (dk_at dksX3_compileFactor_0 11 rfl rfl)
theorem dX3_compileFactor_14 : decode cX3_compileFactor 14 = .ok (.aload_n 0, 1) := dk_42 (dk_at dksX3_compileFactor_0 14 rfl rfl)
theorem dX3_compileFactor_15 : decode cX3_compileFactor 15 = .ok (.getfield 408, 3) := dk_180 1 152 (dk_at dksX3_compileFactor_0 15 rfl rfl)
theorem dX3_compileFactor_18 : decode cX3_compileFactor 18 = .ok (.ifCond .ne 7, 3) := dk_154 0 7 (dk_at dksX3_compileFactor_0 18 rfl rfl)
theorem dX3_compileFactor_21 : decode cX3_compileFactor 21 = .ok (.aload_n 0, 1) := dk_42 (dk_at dksX3_compileFactor_0 21 rfl rfl)
theorem dX3_compileFactor_22 : decode cX3_compileFactor 22 = .ok (.invokevirtual 506, 3) := dk_182 1 250 (dk_at dksX3_compileFactor_1 0 rfl rfl)
theorem dX3_compileFactor_25 : decode cX3_compileFactor 25 = .ok (.aload_n 0, 1) := dk_42 (dk_at dksX3_compileFactor_1 3 rfl rfl)
theorem dX3_compileFactor_26 : decode cX3_compileFactor 26 = .ok (.bipush (-23), 2) := dk_16 233 (dk_at dksX3_compileFactor_1 4 rfl rfl)
theorem dX3_compileFactor_28 : decode cX3_compileFactor 28 = .ok (.invokevirtual 498, 3) := dk_182 1 242 (dk_at dksX3_compileFactor_1 6 rfl rfl)
theorem dX3_compileFactor_31 : decode cX3_compileFactor 31 = .ok (.aload_n 0, 1) := dk_42 (dk_at dksX3_compileFactor_1 9 rfl rfl)
theorem dX3_compileFactor_32 : decode cX3_compileFactor 32 = .ok (.dup, 1) := dk_89 (dk_at dksX3_compileFactor_1 10 rfl rfl)
theorem dX3_compileFactor_33 : decode cX3_compileFactor 33 = .ok (.getfield 411, 3) := dk_180 1 155 (dk_at dksX3_compileFactor_1 11 rfl rfl)
theorem dX3_compileFactor_36 : decode cX3_compileFactor 36 = .ok (.iconst 1, 1) := dk_4 (dk_at dksX3_compileFactor_1 14 rfl rfl)
theorem dX3_compileFactor_37 : decode cX3_compileFactor 37 = .ok (.isub, 1) := dk_100 (dk_at dksX3_compileFactor_1 15 rfl rfl)
theorem dX3_compileFactor_38 : decode cX3_compileFactor 38 = .ok (.putfield 411, 3) := dk_181 1 155 (dk_at dksX3_compileFactor_1 16 rfl rfl)
theorem dX3_compileFactor_41 : decode cX3_compileFactor 41 = .ok (.goto 119, 3) := dk_167 0 119 (dk_at dksX3_compileFactor_1 19 rfl rfl)
theorem dX3_compileFactor_44 : decode cX3_compileFactor 44 = .ok (.aload_n 0, 1) := dk_42 (dk_at dksX3_compileFactor_1 22 rfl rfl)
theorem dX3_compileFactor_45 : decode cX3_compileFactor 45 = .ok (.bipush 40, 2) := dk_16 40 (dk_at dksX3_compileFactor_2 0 rfl rfl)
theorem dX3_compileFactor_47 : decode cX3_compileFactor 47 = .ok (.invokevirtual 440, 3) := dk_182 1 184 (dk_at dksX3_compileFactor_2 2 rfl rfl)
theorem dX3_compileFactor_50 : decode cX3_compileFactor 50 = .ok (.ifCond .eq 37, 3) := dk_153 0 37 (dk_at dksX3_compileFactor_2 5 rfl rfl)
theorem dX3_compileFactor_53 : decode cX3_compileFactor 53 = .ok (.aload_n 0, 1) := dk_42 (dk_at dksX3_compileFactor_2 8 rfl rfl)
theorem dX3_compileFactor_54 : decode cX3_compileFactor 54 = .ok (.invokevirtual 503, 3) := dk_182 1 247 (dk_at dksX3_compileFactor_2 9 rfl rfl)
theorem dX3_compileFactor_57 : decode cX3_compileFactor 57 = .ok (.aload_n 0, 1) := dk_42 (dk_at dksX3_compileFactor_2 12 rfl rfl)
theorem dX3_compileFactor_58 : decode cX3_compileFactor 58 = .ok (.getfield 408, 3) := dk_180 1 152 (dk_at dksX3_compileFactor_2 13 rfl rfl)
theorem dX3_compileFactor_61 : decode cX3_compileFactor 61 = .ok (.ifCond .ne 7, 3) := dk_154 0 7 (dk_at dksX3_compileFactor_2 16 rfl rfl)
theorem dX3_compileFactor_64 : decode cX3_compileFactor 64 = .ok (.aload_n 0, 1) := dk_42 (dk_at dksX3_compileFactor_2 19 rfl rfl)
theorem dX3_compileFactor_65 : decode cX3_compileFactor 65 = .ok (.invokevirtual 509, 3) := dk_182 1 253 (dk_at dksX3_compileFactor_2 20 rfl rfl)
theorem dX3_compileFactor_68 : decode cX3_compileFactor 68 = .ok (.aload_n 0, 1) := dk_42 (dk_at dksX3_compileFactor_2 23 rfl rfl)
theorem dX3_compileFactor_69 : decode cX3_compileFactor 69 = .ok (.bipush 41, 2) := dk_16 41 (dk_at dksX3_compileFactor_3 0 rfl rfl)
theorem dX3_compileFactor_71 : decode cX3_compileFactor 71 = .ok (.invokevirtual 457, 3) := dk_182 1 201 (dk_at dksX3_compileFactor_3 2 rfl rfl)
theorem dX3_compileFactor_74 : decode cX3_compileFactor 74 = .ok (.aload_n 0, 1) := dk_42 (dk_at dksX3_compileFactor_3 5 rfl rfl)
theorem dX3_compileFactor_75 : decode cX3_compileFactor 75 = .ok (.dup, 1) := dk_89 (dk_at dksX3_compileFactor_3 6 rfl rfl)
theorem dX3_compileFactor_76 : decode cX3_compileFactor 76 = .ok (.getfield 411, 3) := dk_180 1 155 (dk_at dksX3_compileFactor_3 7 rfl rfl)
theorem dX3_compileFactor_79 : decode cX3_compileFactor 79 = .ok (.iconst 1, 1) := dk_4 (dk_at dksX3_compileFactor_3 10 rfl rfl)
theorem dX3_compileFactor_80 : decode cX3_compileFactor 80 = .ok (.isub, 1) := dk_100 (dk_at dksX3_compileFactor_3 11 rfl rfl)
theorem dX3_compileFactor_81 : decode cX3_compileFactor 81 = .ok (.putfield 411, 3) := dk_181 1 155 (dk_at dksX3_compileFactor_3 12 rfl rfl)
theorem dX3_compileFactor_84 : decode cX3_compileFactor 84 = .ok (.goto 76, 3) := dk_167 0 76 (dk_at dksX3_compileFactor_3 15 rfl rfl)
theorem dX3_compileFactor_87 : decode cX3_compileFactor 87 = .ok (.aload_n 0, 1) := dk_42 (dk_at dksX3_compileFactor_3 18 rfl rfl)
theorem dX3_compileFactor_88 : decode cX3_compileFactor 88 = .ok (.invokevirtual 512, 3) := dk_182 2 0 (dk_at dksX3_compileFactor_3 19 rfl rfl)
theorem dX3_compileFactor_91 : decode cX3_compileFactor 91 = .ok (.aload_n 0, 1) := dk_42 (dk_at dksX3_compileFactor_3 22 rfl rfl)
theorem dX3_compileFactor_92 : decode cX3_compileFactor 92 = .ok (.bipush 60, 2) := dk_16 60 (dk_at dksX3_compileFactor_4 0 rfl rfl)
theorem dX3_compileFactor_94 : decode cX3_compileFactor 94 = .ok (.invokevirtual 440, 3) := dk_182 1 184 (dk_at dksX3_compileFactor_4 2 rfl rfl)
theorem dX3_compileFactor_97 : decode cX3_compileFactor 97 = .ok (.ifCond .eq 8, 3) := dk_153 0 8 (dk_at dksX3_compileFactor_4 5 rfl rfl)
theorem dX3_compileFactor_100 : decode cX3_compileFactor 100 = .ok (.bipush (-20), 2) := dk_16 236 (dk_at dksX3_compileFactor_4 8 rfl rfl)
theorem dX3_compileFactor_102 : decode cX3_compileFactor 102 = .ok (.goto 19, 3) := dk_167 0 19 (dk_at dksX3_compileFactor_4 10 rfl rfl)
theorem dX3_compileFactor_105 : decode cX3_compileFactor 105 = .ok (.aload_n 0, 1) := dk_42 (dk_at dksX3_compileFactor_4 13 rfl rfl)
theorem dX3_compileFactor_106 : decode cX3_compileFactor 106 = .ok (.bipush 61, 2) := dk_16 61 (dk_at dksX3_compileFactor_4 14 rfl rfl)
theorem dX3_compileFactor_108 : decode cX3_compileFactor 108 = .ok (.invokevirtual 440, 3) := dk_182 1 184 (dk_at dksX3_compileFactor_4 16 rfl rfl)
theorem dX3_compileFactor_111 : decode cX3_compileFactor 111 = .ok (.ifCond .eq 8, 3) := dk_153 0 8 (dk_at dksX3_compileFactor_4 19 rfl rfl)
theorem dX3_compileFactor_114 : decode cX3_compileFactor 114 = .ok (.bipush (-21), 2) := dk_16 235 (dk_at dksX3_compileFactor_4 22 rfl rfl)
theorem dX3_compileFactor_116 : decode cX3_compileFactor 116 = .ok (.goto 5, 3) := dk_167 0 5 (dk_at dksX3_compileFactor_5 0 rfl rfl)
theorem dX3_compileFactor_119 : decode cX3_compileFactor 119 = .ok (.bipush (-22), 2) := dk_16 234 (dk_at dksX3_compileFactor_5 3 rfl rfl)
theorem dX3_compileFactor_121 : decode cX3_compileFactor 121 = .ok (.istore_n 1, 1) := dk_60 (dk_at dksX3_compileFactor_5 5 rfl rfl)
theorem dX3_compileFactor_122 : decode cX3_compileFactor 122 = .ok (.aload_n 0, 1) := dk_42 (dk_at dksX3_compileFactor_5 6 rfl rfl)
theorem dX3_compileFactor_123 : decode cX3_compileFactor 123 = .ok (.iload_n 1, 1) := dk_27 (dk_at dksX3_compileFactor_5 7 rfl rfl)
theorem dX3_compileFactor_124 : decode cX3_compileFactor 124 = .ok (.bipush (-22), 2) := dk_16 234 (dk_at dksX3_compileFactor_5 8 rfl rfl)
theorem dX3_compileFactor_126 : decode cX3_compileFactor 126 = .ok (.if_icmp .ne 12, 3) := dk_160 0 12 (dk_at dksX3_compileFactor_5 10 rfl rfl)
theorem dX3_compileFactor_129 : decode cX3_compileFactor 129 = .ok (.aload_n 0, 1) := dk_42 (dk_at dksX3_compileFactor_5 13 rfl rfl)
theorem dX3_compileFactor_130 : decode cX3_compileFactor 130 = .ok (.bipush 62, 2) := dk_16 62 (dk_at dksX3_compileFactor_5 14 rfl rfl)
theorem dX3_compileFactor_132 : decode cX3_compileFactor 132 = .ok (.invokevirtual 440, 3) := dk_182 1 184 (dk_at dksX3_compileFactor_5 16 rfl rfl)
theorem dX3_compileFactor_135 : decode cX3_compileFactor 135 = .ok (.ifCond .eq 7, 3) := dk_153 0 7 (dk_at dksX3_compileFactor_5 19 rfl rfl)
theorem dX3_compileFactor_138 : decode cX3_compileFactor 138 = .ok (.iconst 1, 1) := dk_4 (dk_at dksX3_compileFactor_5 22 rfl rfl)
theorem dX3_compileFactor_139 : decode cX3_compileFactor 139 = .ok (.goto 4, 3) := dk_167 0 4 (dk_at dksX3_compileFactor_6 0 rfl rfl)
theorem dX3_compileFactor_142 : decode cX3_compileFactor 142 = .ok (.iconst 0, 1) := dk_3 (dk_at dksX3_compileFactor_6 3 rfl rfl)
theorem dX3_compileFactor_143 : decode cX3_compileFactor 143 = .ok (.iconst 1, 1) := dk_4 (dk_at dksX3_compileFactor_6 4 rfl rfl)
theorem dX3_compileFactor_144 : decode cX3_compileFactor 144 = .ok (.invokevirtual 434, 3) := dk_182 1 178 (dk_at dksX3_compileFactor_6 5 rfl rfl)
theorem dX3_compileFactor_147 : decode cX3_compileFactor 147 = .ok (.aload_n 0, 1) := dk_42 (dk_at dksX3_compileFactor_6 8 rfl rfl)
theorem dX3_compileFactor_148 : decode cX3_compileFactor 148 = .ok (.invokevirtual 437, 3) := dk_182 1 181 (dk_at dksX3_compileFactor_6 9 rfl rfl)
theorem dX3_compileFactor_151 : decode cX3_compileFactor 151 = .ok (.aload_n 0, 1) := dk_42 (dk_at dksX3_compileFactor_6 12 rfl rfl)
theorem dX3_compileFactor_152 : decode cX3_compileFactor 152 = .ok (.invokevirtual 512, 3) := dk_182 2 0 (dk_at dksX3_compileFactor_6 13 rfl rfl)
theorem dX3_compileFactor_155 : decode cX3_compileFactor 155 = .ok (.aload_n 0, 1) := dk_42 (dk_at dksX3_compileFactor_6 16 rfl rfl)
theorem dX3_compileFactor_156 : decode cX3_compileFactor 156 = .ok (.iload_n 1, 1) := dk_27 (dk_at dksX3_compileFactor_6 17 rfl rfl)
theorem dX3_compileFactor_157 : decode cX3_compileFactor 157 = .ok (.invokevirtual 498, 3) := dk_182 1 242 (dk_at dksX3_compileFactor_6 18 rfl rfl)
theorem dX3_compileFactor_160 : decode cX3_compileFactor 160 = .ok (.return_, 1) := dk_177 (dk_at dksX3_compileFactor_6 21 rfl rfl)
/-- PackingDuelModel.compileFactor()V -/
def zb288 (G : zPg) (C : zO) (args : List Value) (Q : zQ) (Y : zY) (σ : zS) : Prop := ∃ (a0 : Nat), args = [.ref a0] ∧ (zrc σ (some a0) 4 (fun a4 => zcl C 272 [.ref a4, va_rf (some (G.2 26))] Y σ (zqI (fun v1 s2 => zJ (fun  (s8 : zS) => Q none s8) (fun (j9 : zS → Prop) => ((v1 = 0) → zrc s2 (some a0) 4 (fun a14 => zcl C 280 [.ref a14, .int (40 : Int32)] Y s2 (zqI (fun v11 s12 => ((v11 = 0) → zrc s12 (some a0) 4 (fun a22 => zcl C 291 [.ref a22] Y s12 (zqV (fun s20 => zrc s20 (some a0) 4 (fun a29 => zcl C 280 [.ref a29, .int (60 : Int32)] Y s20 (zqI (fun v26 s27 => zJ (fun (p33 : Int32) (s34 : zS) => zJ (fun (p36 : Int32) (s37 : zS) => zrc s37 (some a0) 4 (fun a42 => zcl C 273 [.ref a42, .int p36, .int (1 : Int32)] Y s37 (zqV (fun s40 => zrc s40 (some a0) 4 (fun a49 => zcl C 275 [.ref a49] Y s40 (zqV (fun s47 => zrc s47 (some a0) 4 (fun a56 => zcl C 291 [.ref a56] Y s47 (zqV (fun s54 => zrc s54 (some a0) 4 (fun a63 => zcl C 290 [.ref a63, .int p33] Y s54 (zqV (fun s61 => j9 s61))))))))))))) (fun (j38 : Int32 → zS → Prop) => zJ (fun  (s67 : zS) => j38 (1 : Int32) s67) (fun (j68 : zS → Prop) => ((¬ p33 = (-22 : Int32)) → j68 s34) ∧ ((p33 = (-22 : Int32)) → zrc s34 (some a0) 4 (fun a73 => zcl C 280 [.ref a73, .int (62 : Int32)] Y s34 (zqI (fun v70 s71 => ((v70 = 0) → j38 (0 : Int32) s71) ∧ ((¬ v70 = 0) → j68 s71)))))))) (fun (j35 : Int32 → zS → Prop) => ((v26 = 0) → zrc s27 (some a0) 4 (fun a82 => zcl C 280 [.ref a82, .int (61 : Int32)] Y s27 (zqI (fun v79 s80 => ((v79 = 0) → j35 (-22 : Int32) s80) ∧ ((¬ v79 = 0) → j35 (-21 : Int32) s80))))) ∧ ((¬ v26 = 0) → j35 (-20 : Int32) s27))))))))) ∧ ((¬ v11 = 0) → zrc s12 (some a0) 4 (fun a90 => zcl C 289 [.ref a90] Y s12 (zqV (fun s88 => zgI s88 (some a0) 4 33 (fun v94 => zJ (fun  (s100 : zS) => zrc s100 (some a0) 4 (fun a105 => zcl C 279 [.ref a105, .int (41 : Int32)] Y s100 (zqV (fun s103 => zgI s103 (some a0) 4 36 (fun v109 => zput s103 G.1 (some a0) 4 36 (.int (v109 - (1 : Int32))) (fun s115 => j9 s115)))))) (fun (j101 : zS → Prop) => ((¬ v94 = 0) → j101 s88) ∧ ((v94 = 0) → zrc s88 (some a0) 4 (fun a127 => zcl C 286 [.ref a127] Y s88 (zqV (fun s125 => j101 s125)))))))))))))) ∧ ((¬ v1 = 0) → zrc s2 (some a0) 4 (fun a134 => zcl C 289 [.ref a134] Y s2 (zqV (fun s132 => zgI s132 (some a0) 4 33 (fun v138 => zJ (fun  (s144 : zS) => zrc s144 (some a0) 4 (fun a149 => zcl C 290 [.ref a149, .int (-23 : Int32)] Y s144 (zqV (fun s147 => zgI s147 (some a0) 4 36 (fun v153 => zput s147 G.1 (some a0) 4 36 (.int (v153 - (1 : Int32))) (fun s159 => j9 s159)))))) (fun (j145 : zS → Prop) => ((¬ v138 = 0) → j145 s132) ∧ ((v138 = 0) → zrc s132 (some a0) 4 (fun a171 => zcl C 288 [.ref a171] Y s132 (zqV (fun s169 => j145 s169)))))))))))))))
set_option maxHeartbeats 4000000 in
theorem wk288 {l : Launch} {g : zG} {d : Nat} {C : zO} (hG : zGk g) (hC : zSound l g d C) {args : List Value} {Q : zQ} {Y : zY} {σ : zS} (hw : zb288 (zpg g) C args Q Y σ) : zMet l g (d + 1) (⟨"PackingDuelModel", "compileFactor", "()V"⟩, Cond.code ⟨"PackingDuelModel", "compileFactor", "()V"⟩ prog_28_method_135_code 2 (Option.none : Option FieldType)) args σ Q Y := by
  obtain ⟨a0, rfl, hw⟩ := hw
  refine zof hG (by decide +kernel) [false] ⟨rfl, trivial⟩ (Nat.le_of_ble_eq_true rfl) (ls := [some (va_rf (some a0)), none]) rfl ?_
  intro X hX hR hTb hd1 hd2 hl hg hnm
  subst hl
  subst hg
  have hd : zDep X d := ⟨hd1, hd2⟩
  refine z_aload_n hX dX3_compileFactor_0 rfl (i := 0) rfl ?_
  refine z_ldcwS hX (tx := "not") (j := 26) dX3_compileFactor_1 (List.mem_of_getElem? (i := 26) rfl) ?_
  obtain ⟨a4, f5, r6, m7, hw⟩ := hw
  refine z_invV hX hd r6 (ci := 4) rfl rfl m7 dX3_compileFactor_4 (hC 272 _ zm272 _ _ _ _ hw) q3055 q3057 qs108 zh7 q3058 q136 zn272 rfl (Nat.le_of_ble_eq_true rfl) (st := []) rfl (zcs8 (Nat.le_of_ble_eq_true rfl)) rfl (zkI (fun v1 s2 hw => ?_)) (zout hX hR hTb)
  refine zJ_w (P := fun (j : zS → Prop) => ∀  (s8 : zS), j  s8 → zW X s8 160 [none, none] []) hw (fun  s8 hw => ?_) (fun j9 hj9 hw => ?_)
  · exact z_return hX hR dX3_compileFactor_160 hw
  · refine z_if_eq hX dX3_compileFactor_7 (tgt := 44) rfl (fun c10 => ?_) (fun c10 => ?_)
    · have hw := hw.1 c10
      refine z_aload_n hX dX3_compileFactor_44 rfl (i := 0) rfl ?_
      refine z_bipush hX (v := (40 : Int32)) dX3_compileFactor_45 (by decide) ?_
      obtain ⟨a14, f15, r16, m17, hw⟩ := hw
      refine z_invV hX hd r16 (ci := 4) rfl rfl m17 dX3_compileFactor_47 (hC 280 _ zm280 _ _ _ _ hw) q3096 q3098 qs116 zh7 q3099 q136 zn280 rfl (Nat.le_of_ble_eq_true rfl) (st := []) rfl (zcs8 (Nat.le_of_ble_eq_true rfl)) rfl (zkI (fun v11 s12 hw => ?_)) (zout hX hR hTb)
      refine z_if_eq hX dX3_compileFactor_50 (tgt := 87) rfl (fun c18 => ?_) (fun c18 => ?_)
      · have hw := hw.1 c18
        refine z_aload_n hX dX3_compileFactor_87 rfl (i := 0) rfl ?_
        obtain ⟨a22, f23, r24, m25, hw⟩ := hw
        refine z_invV hX hd r24 (ci := 4) rfl rfl m25 dX3_compileFactor_88 (hC 291 _ zm291 _ _ _ _ hw) q3147 q3149 qs126 zh7 q3150 q136 zn291 rfl (Nat.le_of_ble_eq_true rfl) (st := []) rfl (zcs8 (Nat.le_of_ble_eq_true rfl)) rfl (zkV (fun s20 hw => ?_)) (zout hX hR hTb)
        refine z_aload_n hX dX3_compileFactor_91 rfl (i := 0) rfl ?_
        refine z_bipush hX (v := (60 : Int32)) dX3_compileFactor_92 (by decide) ?_
        obtain ⟨a29, f30, r31, m32, hw⟩ := hw
        refine z_invV hX hd r31 (ci := 4) rfl rfl m32 dX3_compileFactor_94 (hC 280 _ zm280 _ _ _ _ hw) q3096 q3098 qs116 zh7 q3099 q136 zn280 rfl (Nat.le_of_ble_eq_true rfl) (st := []) rfl (zcs8 (Nat.le_of_ble_eq_true rfl)) rfl (zkI (fun v26 s27 hw => ?_)) (zout hX hR hTb)
        refine zJ_w (P := fun (j : Int32 → zS → Prop) => ∀ (p33 : Int32) (s34 : zS), j p33 s34 → zW X s34 121 [some (va_rf (some a0)), none] [.int p33]) hw (fun p33 s34 hw => ?_) (fun j35 hj35 hw => ?_)
        · refine z_istore_n hX dX3_compileFactor_121 rfl (i := 1) (Nat.le_of_ble_eq_true rfl) (zc_rf _) (ls2 := [some (va_rf (some a0)), some (.int p33)]) rfl ?_
          refine z_aload_n hX dX3_compileFactor_122 rfl (i := 0) rfl ?_
          refine z_iload_n hX dX3_compileFactor_123 rfl (i := 1) rfl ?_
          refine z_bipush hX (v := (-22 : Int32)) dX3_compileFactor_124 (by decide) ?_
          refine zJ_w (P := fun (j : Int32 → zS → Prop) => ∀ (p36 : Int32) (s37 : zS), j p36 s37 → zW X s37 143 [some (va_rf (some a0)), some (.int p33)] [.int p36, va_rf (some a0)]) hw (fun p36 s37 hw => ?_) (fun j38 hj38 hw => ?_)
          · refine z_iconst hX (v := (1 : Int32)) dX3_compileFactor_143 (by decide) ?_
            obtain ⟨a42, f43, r44, m45, hw⟩ := hw
            refine z_invV hX hd r44 (ci := 4) rfl rfl m45 dX3_compileFactor_144 (hC 273 _ zm273 _ _ _ _ hw) q3061 q3063 qs109 zh7 q3064 q136 zn273 rfl (Nat.le_of_ble_eq_true rfl) (st := []) rfl (zcs8 (Nat.le_of_ble_eq_true rfl)) rfl (zkV (fun s40 hw => ?_)) (zout hX hR hTb)
            refine z_aload_n hX dX3_compileFactor_147 rfl (i := 0) rfl ?_
            obtain ⟨a49, f50, r51, m52, hw⟩ := hw
            refine z_invV hX hd r51 (ci := 4) rfl rfl m52 dX3_compileFactor_148 (hC 275 _ zm275 _ _ _ _ hw) q3069 q3071 qs111 zh7 q3072 q136 zn275 rfl (Nat.le_of_ble_eq_true rfl) (st := []) rfl (zcs8 (Nat.le_of_ble_eq_true rfl)) rfl (zkV (fun s47 hw => ?_)) (zout hX hR hTb)
            refine z_aload_n hX dX3_compileFactor_151 rfl (i := 0) rfl ?_
            obtain ⟨a56, f57, r58, m59, hw⟩ := hw
            refine z_invV hX hd r58 (ci := 4) rfl rfl m59 dX3_compileFactor_152 (hC 291 _ zm291 _ _ _ _ hw) q3147 q3149 qs126 zh7 q3150 q136 zn291 rfl (Nat.le_of_ble_eq_true rfl) (st := []) rfl (zcs8 (Nat.le_of_ble_eq_true rfl)) rfl (zkV (fun s54 hw => ?_)) (zout hX hR hTb)
            refine z_aload_n hX dX3_compileFactor_155 rfl (i := 0) rfl ?_
            refine z_iload_n hX dX3_compileFactor_156 rfl (i := 1) rfl ?_
            obtain ⟨a63, f64, r65, m66, hw⟩ := hw
            refine z_invV hX hd r65 (ci := 4) rfl rfl m66 dX3_compileFactor_157 (hC 290 _ zm290 _ _ _ _ hw) q3143 q3145 qs125 zh7 q3146 q136 zn290 rfl (Nat.le_of_ble_eq_true rfl) (st := []) rfl (zcs8 (Nat.le_of_ble_eq_true rfl)) rfl (zkV (fun s61 hw => ?_)) (zout hX hR hTb)
            refine z_sub (ls' := [none, none]) (zsN (zsN (zs0))) ?_
            exact hj9  _ hw
          · refine zJ_w (P := fun (j : zS → Prop) => ∀  (s67 : zS), j  s67 → zW X s67 138 [some (va_rf (some a0)), some (.int p33)] [va_rf (some a0)]) hw (fun  s67 hw => ?_) (fun j68 hj68 hw => ?_)
            · refine z_iconst hX (v := (1 : Int32)) dX3_compileFactor_138 (by decide) ?_
              refine z_goto hX dX3_compileFactor_139 (tgt := 143) rfl ?_
              exact hj38 _ _ hw
            · refine z_icmp_ne hX dX3_compileFactor_126 (tgt := 138) rfl (fun c69 => ?_) (fun c69 => ?_)
              · have hw := hw.1 c69
                exact hj68  _ hw
              · have hw := hw.2 c69
                refine z_aload_n hX dX3_compileFactor_129 rfl (i := 0) rfl ?_
                refine z_bipush hX (v := (62 : Int32)) dX3_compileFactor_130 (by decide) ?_
                obtain ⟨a73, f74, r75, m76, hw⟩ := hw
                refine z_invV hX hd r75 (ci := 4) rfl rfl m76 dX3_compileFactor_132 (hC 280 _ zm280 _ _ _ _ hw) q3096 q3098 qs116 zh7 q3099 q136 zn280 rfl (Nat.le_of_ble_eq_true rfl) (st := [va_rf (some a0)]) rfl (zcs8 (Nat.le_of_ble_eq_true rfl)) rfl (zkI (fun v70 s71 hw => ?_)) (zout hX hR hTb)
                refine z_if_eq hX dX3_compileFactor_135 (tgt := 142) rfl (fun c77 => ?_) (fun c77 => ?_)
                · have hw := hw.1 c77
                  refine z_iconst hX (v := (0 : Int32)) dX3_compileFactor_142 (by decide) ?_
                  exact hj38 _ _ hw
                · have hw := hw.2 c77
                  exact hj68  _ hw
        · refine z_if_eq hX dX3_compileFactor_97 (tgt := 105) rfl (fun c78 => ?_) (fun c78 => ?_)
          · have hw := hw.1 c78
            refine z_aload_n hX dX3_compileFactor_105 rfl (i := 0) rfl ?_
            refine z_bipush hX (v := (61 : Int32)) dX3_compileFactor_106 (by decide) ?_
            obtain ⟨a82, f83, r84, m85, hw⟩ := hw
            refine z_invV hX hd r84 (ci := 4) rfl rfl m85 dX3_compileFactor_108 (hC 280 _ zm280 _ _ _ _ hw) q3096 q3098 qs116 zh7 q3099 q136 zn280 rfl (Nat.le_of_ble_eq_true rfl) (st := []) rfl (zcs8 (Nat.le_of_ble_eq_true rfl)) rfl (zkI (fun v79 s80 hw => ?_)) (zout hX hR hTb)
            refine z_if_eq hX dX3_compileFactor_111 (tgt := 119) rfl (fun c86 => ?_) (fun c86 => ?_)
            · have hw := hw.1 c86
              refine z_bipush hX (v := (-22 : Int32)) dX3_compileFactor_119 (by decide) ?_
              exact hj35 _ _ hw
            · have hw := hw.2 c86
              refine z_bipush hX (v := (-21 : Int32)) dX3_compileFactor_114 (by decide) ?_
              refine z_goto hX dX3_compileFactor_116 (tgt := 121) rfl ?_
              exact hj35 _ _ hw
          · have hw := hw.2 c78
            refine z_bipush hX (v := (-20 : Int32)) dX3_compileFactor_100 (by decide) ?_
            refine z_goto hX dX3_compileFactor_102 (tgt := 121) rfl ?_
            exact hj35 _ _ hw
      · have hw := hw.2 c18
        refine z_aload_n hX dX3_compileFactor_53 rfl (i := 0) rfl ?_
        obtain ⟨a90, f91, r92, m93, hw⟩ := hw
        refine z_invV hX hd r92 (ci := 4) rfl rfl m93 dX3_compileFactor_54 (hC 289 _ zm289 _ _ _ _ hw) q3139 q3141 qs124 zh7 q3142 q136 zn289 rfl (Nat.le_of_ble_eq_true rfl) (st := []) rfl (zcs8 (Nat.le_of_ble_eq_true rfl)) rfl (zkV (fun s88 hw => ?_)) (zout hX hR hTb)
        refine z_aload_n hX dX3_compileFactor_57 rfl (i := 0) rfl ?_
        obtain ⟨a95, f96, v94, r97, m98, e99, hw⟩ := hw
        refine z_get hX zc4 (k := 33) dX3_compileFactor_58 (Nat.le_of_ble_eq_true rfl) (zlk hX q2502) r97 m98 e99 ?_
        refine zJ_w (P := fun (j : zS → Prop) => ∀  (s100 : zS), j  s100 → zW X s100 68 [some (va_rf (some a0)), none] []) hw (fun  s100 hw => ?_) (fun j101 hj101 hw => ?_)
        · refine z_aload_n hX dX3_compileFactor_68 rfl (i := 0) rfl ?_
          refine z_bipush hX (v := (41 : Int32)) dX3_compileFactor_69 (by decide) ?_
          obtain ⟨a105, f106, r107, m108, hw⟩ := hw
          refine z_invV hX hd r107 (ci := 4) rfl rfl m108 dX3_compileFactor_71 (hC 279 _ zm279 _ _ _ _ hw) q3092 q3094 qs115 zh7 q3095 q136 zn279 rfl (Nat.le_of_ble_eq_true rfl) (st := []) rfl (zcs8 (Nat.le_of_ble_eq_true rfl)) rfl (zkV (fun s103 hw => ?_)) (zout hX hR hTb)
          refine z_aload_n hX dX3_compileFactor_74 rfl (i := 0) rfl ?_
          refine z_dup hX dX3_compileFactor_75 (zc_rf _) ?_
          obtain ⟨a110, f111, v109, r112, m113, e114, hw⟩ := hw
          refine z_get hX zc4 (k := 36) dX3_compileFactor_76 (Nat.le_of_ble_eq_true rfl) (zlk hX q2505) r112 m113 e114 ?_
          refine z_iconst hX (v := (1 : Int32)) dX3_compileFactor_79 (by decide) ?_
          refine z_isub hX dX3_compileFactor_80 ?_
          obtain ⟨a117, f118, r119, g120, m121, l122, hw⟩ := hw
          refine z_put hX zc4 (k := 36) dX3_compileFactor_81 (Nat.le_of_ble_eq_true rfl) (zlk hX q2505) rfl rfl rfl r119 g120 m121 l122 (z_nm (fun s115 e116 => ?_))
          have hw := hw s115 e116
          refine z_goto hX dX3_compileFactor_84 (tgt := 160) rfl ?_
          refine z_sub (ls' := [none, none]) (zsN (zsN (zs0))) ?_
          exact hj9  _ hw
        · refine z_if_ne hX dX3_compileFactor_61 (tgt := 68) rfl (fun c123 => ?_) (fun c123 => ?_)
          · have hw := hw.1 c123
            exact hj101  _ hw
          · have hw := hw.2 c123
            refine z_aload_n hX dX3_compileFactor_64 rfl (i := 0) rfl ?_
            obtain ⟨a127, f128, r129, m130, hw⟩ := hw
            refine z_invV hX hd r129 (ci := 4) rfl rfl m130 dX3_compileFactor_65 (hC 286 _ zm286 _ _ _ _ hw) q3126 q3128 qs121 zh7 q3129 q136 zn286 rfl (Nat.le_of_ble_eq_true rfl) (st := []) rfl (zcs8 (Nat.le_of_ble_eq_true rfl)) rfl (zkV (fun s125 hw => ?_)) (zout hX hR hTb)
            exact hj101  _ hw
    · have hw := hw.2 c10
      refine z_aload_n hX dX3_compileFactor_10 rfl (i := 0) rfl ?_
      obtain ⟨a134, f135, r136, m137, hw⟩ := hw
      refine z_invV hX hd r136 (ci := 4) rfl rfl m137 dX3_compileFactor_11 (hC 289 _ zm289 _ _ _ _ hw) q3139 q3141 qs124 zh7 q3142 q136 zn289 rfl (Nat.le_of_ble_eq_true rfl) (st := []) rfl (zcs8 (Nat.le_of_ble_eq_true rfl)) rfl (zkV (fun s132 hw => ?_)) (zout hX hR hTb)
      refine z_aload_n hX dX3_compileFactor_14 rfl (i := 0) rfl ?_
      obtain ⟨a139, f140, v138, r141, m142, e143, hw⟩ := hw
      refine z_get hX zc4 (k := 33) dX3_compileFactor_15 (Nat.le_of_ble_eq_true rfl) (zlk hX q2502) r141 m142 e143 ?_
      refine zJ_w (P := fun (j : zS → Prop) => ∀  (s144 : zS), j  s144 → zW X s144 25 [some (va_rf (some a0)), none] []) hw (fun  s144 hw => ?_) (fun j145 hj145 hw => ?_)
      · refine z_aload_n hX dX3_compileFactor_25 rfl (i := 0) rfl ?_
        refine z_bipush hX (v := (-23 : Int32)) dX3_compileFactor_26 (by decide) ?_
        obtain ⟨a149, f150, r151, m152, hw⟩ := hw
        refine z_invV hX hd r151 (ci := 4) rfl rfl m152 dX3_compileFactor_28 (hC 290 _ zm290 _ _ _ _ hw) q3143 q3145 qs125 zh7 q3146 q136 zn290 rfl (Nat.le_of_ble_eq_true rfl) (st := []) rfl (zcs8 (Nat.le_of_ble_eq_true rfl)) rfl (zkV (fun s147 hw => ?_)) (zout hX hR hTb)
        refine z_aload_n hX dX3_compileFactor_31 rfl (i := 0) rfl ?_
        refine z_dup hX dX3_compileFactor_32 (zc_rf _) ?_
        obtain ⟨a154, f155, v153, r156, m157, e158, hw⟩ := hw
        refine z_get hX zc4 (k := 36) dX3_compileFactor_33 (Nat.le_of_ble_eq_true rfl) (zlk hX q2505) r156 m157 e158 ?_
        refine z_iconst hX (v := (1 : Int32)) dX3_compileFactor_36 (by decide) ?_
        refine z_isub hX dX3_compileFactor_37 ?_
        obtain ⟨a161, f162, r163, g164, m165, l166, hw⟩ := hw
        refine z_put hX zc4 (k := 36) dX3_compileFactor_38 (Nat.le_of_ble_eq_true rfl) (zlk hX q2505) rfl rfl rfl r163 g164 m165 l166 (z_nm (fun s159 e160 => ?_))
        have hw := hw s159 e160
        refine z_goto hX dX3_compileFactor_41 (tgt := 160) rfl ?_
        refine z_sub (ls' := [none, none]) (zsN (zsN (zs0))) ?_
        exact hj9  _ hw
      · refine z_if_ne hX dX3_compileFactor_18 (tgt := 25) rfl (fun c167 => ?_) (fun c167 => ?_)
        · have hw := hw.1 c167
          exact hj145  _ hw
        · have hw := hw.2 c167
          refine z_aload_n hX dX3_compileFactor_21 rfl (i := 0) rfl ?_
          obtain ⟨a171, f172, r173, m174, hw⟩ := hw
          refine z_invV hX hd r173 (ci := 4) rfl rfl m174 dX3_compileFactor_22 (hC 288 _ zm288 _ _ _ _ hw) q3134 q3136 qs123 zh7 q3137 q136 zn288 rfl (Nat.le_of_ble_eq_true rfl) (st := []) rfl (zcs8 (Nat.le_of_ble_eq_true rfl)) rfl (zkV (fun s169 hw => ?_)) (zout hX hR hTb)
          exact hj145  _ hw
abbrev cX3_enter : ByteArray := prog_28_method_133_code
def yX3_enter : MethodName := ⟨RX3, "enter", "()V"⟩
def dkwX3_enter_1 : List UInt8 := [4, 96, 181, 1, 155, 42, 182, 1, 181, 177]
abbrev dktX3_enter_1 : List UInt8 := dkwX3_enter_1 ++ []
def dkwX3_enter_0 : List UInt8 := [42, 42, 180, 1, 155, 16, 6, 162, 0, 7, 4, 167, 0, 4, 3, 6, 182, 1, 178, 42, 89, 180, 1, 155]
abbrev dktX3_enter_0 : List UInt8 := dkwX3_enter_0 ++ dktX3_enter_1
theorem dksX3_enter_0 : cX3_enter.data.toList.drop 0 = dktX3_enter_0 := by decide +kernel
theorem dksX3_enter_1 : cX3_enter.data.toList.drop 24 = dktX3_enter_1 := dk_seg dksX3_enter_0 24 rfl rfl
theorem dX3_enter_0 : decode cX3_enter 0 = .ok (.aload_n 0, 1) := dk_42 (dk_at dksX3_enter_0 0 rfl rfl)
theorem dX3_enter_1 : decode cX3_enter 1 = .ok (.aload_n 0, 1) := dk_42 (dk_at dksX3_enter_0 1 rfl rfl)
theorem dX3_enter_2 : decode cX3_enter 2 = .ok (.getfield 411, 3) := dk_180 1 155 (dk_at dksX3_enter_0 2 rfl rfl)
theorem dX3_enter_5 : decode cX3_enter 5 = .ok (.bipush 6, 2) := dk_16 6 (dk_at dksX3_enter_0 5 rfl rfl)
theorem dX3_enter_7 : decode cX3_enter 7 = .ok (.if_icmp .ge 7, 3) := dk_162 0 7 (dk_at dksX3_enter_0 7 rfl rfl)
theorem dX3_enter_10 : decode cX3_enter 10 = .ok (.iconst 1, 1) := dk_4 (dk_at dksX3_enter_0 10 rfl rfl)
theorem dX3_enter_11 : decode cX3_enter 11 = .ok (.goto 4, 3) := dk_167 0 4 (dk_at dksX3_enter_0 11 rfl rfl)
theorem dX3_enter_14 : decode cX3_enter 14 = .ok (.iconst 0, 1) := dk_3 (dk_at dksX3_enter_0 14 rfl rfl)
theorem dX3_enter_15 : decode cX3_enter 15 = .ok (.iconst 3, 1) := dk_6 (dk_at dksX3_enter_0 15 rfl rfl)
theorem dX3_enter_16 : decode cX3_enter 16 = .ok (.invokevirtual 434, 3) := dk_182 1 178 (dk_at dksX3_enter_0 16 rfl rfl)
theorem dX3_enter_19 : decode cX3_enter 19 = .ok (.aload_n 0, 1) := dk_42 (dk_at dksX3_enter_0 19 rfl rfl)
theorem dX3_enter_20 : decode cX3_enter 20 = .ok (.dup, 1) := dk_89 (dk_at dksX3_enter_0 20 rfl rfl)
theorem dX3_enter_21 : decode cX3_enter 21 = .ok (.getfield 411, 3) := dk_180 1 155 (dk_at dksX3_enter_0 21 rfl rfl)
theorem dX3_enter_24 : decode cX3_enter 24 = .ok (.iconst 1, 1) := dk_4 (dk_at dksX3_enter_1 0 rfl rfl)
theorem dX3_enter_25 : decode cX3_enter 25 = .ok (.iadd, 1) := dk_96 (dk_at dksX3_enter_1 1 rfl rfl)
theorem dX3_enter_26 : decode cX3_enter 26 = .ok (.putfield 411, 3) := dk_181 1 155 (dk_at dksX3_enter_1 2 rfl rfl)
theorem dX3_enter_29 : decode cX3_enter 29 = .ok (.aload_n 0, 1) := dk_42 (dk_at dksX3_enter_1 5 rfl rfl)
theorem dX3_enter_30 : decode cX3_enter 30 = .ok (.invokevirtual 437, 3) := dk_182 1 181 (dk_at dksX3_enter_1 6 rfl rfl)
theorem dX3_enter_33 : decode cX3_enter 33 = .ok (.return_, 1) := dk_177 (dk_at dksX3_enter_1 9 rfl rfl)
/-- PackingDuelModel.enter()V -/
def zb289 (G : zPg) (C : zO) (args : List Value) (Q : zQ) (Y : zY) (σ : zS) : Prop := ∃ (a0 : Nat), args = [.ref a0] ∧ (zgI σ (some a0) 4 36 (fun v1 => zJ (fun (p7 : Int32) (s8 : zS) => zrc s8 (some a0) 4 (fun a13 => zcl C 273 [.ref a13, .int p7, .int (3 : Int32)] Y s8 (zqV (fun s11 => zgI s11 (some a0) 4 36 (fun v17 => zput s11 G.1 (some a0) 4 36 (.int (v17 + (1 : Int32))) (fun s23 => zrc s23 (some a0) 4 (fun a34 => zcl C 275 [.ref a34] Y s23 (zqV (fun s32 => Q none s32))))))))) (fun (j9 : Int32 → zS → Prop) => (((6 : Int32) ≤ v1) → j9 (0 : Int32) σ) ∧ ((¬ (6 : Int32) ≤ v1) → j9 (1 : Int32) σ))))
set_option maxHeartbeats 4000000 in
theorem wk289 {l : Launch} {g : zG} {d : Nat} {C : zO} (hG : zGk g) (hC : zSound l g d C) {args : List Value} {Q : zQ} {Y : zY} {σ : zS} (hw : zb289 (zpg g) C args Q Y σ) : zMet l g (d + 1) (⟨"PackingDuelModel", "enter", "()V"⟩, Cond.code ⟨"PackingDuelModel", "enter", "()V"⟩ prog_28_method_133_code 1 (Option.none : Option FieldType)) args σ Q Y := by
  obtain ⟨a0, rfl, hw⟩ := hw
  refine zof hG (by decide +kernel) [false] ⟨rfl, trivial⟩ (Nat.le_of_ble_eq_true rfl) (ls := [some (va_rf (some a0))]) rfl ?_
  intro X hX hR hTb hd1 hd2 hl hg hnm
  subst hl
  subst hg
  have hd : zDep X d := ⟨hd1, hd2⟩
  refine z_aload_n hX dX3_enter_0 rfl (i := 0) rfl ?_
  refine z_aload_n hX dX3_enter_1 rfl (i := 0) rfl ?_
  obtain ⟨a2, f3, v1, r4, m5, e6, hw⟩ := hw
  refine z_get hX zc4 (k := 36) dX3_enter_2 (Nat.le_of_ble_eq_true rfl) (zlk hX q2505) r4 m5 e6 ?_
  refine z_bipush hX (v := (6 : Int32)) dX3_enter_5 (by decide) ?_
  refine zJ_w (P := fun (j : Int32 → zS → Prop) => ∀ (p7 : Int32) (s8 : zS), j p7 s8 → zW X s8 15 [some (va_rf (some a0))] [.int p7, va_rf (some a0)]) hw (fun p7 s8 hw => ?_) (fun j9 hj9 hw => ?_)
  · refine z_iconst hX (v := (3 : Int32)) dX3_enter_15 (by decide) ?_
    obtain ⟨a13, f14, r15, m16, hw⟩ := hw
    refine z_invV hX hd r15 (ci := 4) rfl rfl m16 dX3_enter_16 (hC 273 _ zm273 _ _ _ _ hw) q3061 q3063 qs109 zh7 q3064 q136 zn273 rfl (Nat.le_of_ble_eq_true rfl) (st := []) rfl (zcs8 (Nat.le_of_ble_eq_true rfl)) rfl (zkV (fun s11 hw => ?_)) (zout hX hR hTb)
    refine z_aload_n hX dX3_enter_19 rfl (i := 0) rfl ?_
    refine z_dup hX dX3_enter_20 (zc_rf _) ?_
    obtain ⟨a18, f19, v17, r20, m21, e22, hw⟩ := hw
    refine z_get hX zc4 (k := 36) dX3_enter_21 (Nat.le_of_ble_eq_true rfl) (zlk hX q2505) r20 m21 e22 ?_
    refine z_iconst hX (v := (1 : Int32)) dX3_enter_24 (by decide) ?_
    refine z_iadd hX dX3_enter_25 ?_
    obtain ⟨a25, f26, r27, g28, m29, l30, hw⟩ := hw
    refine z_put hX zc4 (k := 36) dX3_enter_26 (Nat.le_of_ble_eq_true rfl) (zlk hX q2505) rfl rfl rfl r27 g28 m29 l30 (z_nm (fun s23 e24 => ?_))
    have hw := hw s23 e24
    refine z_aload_n hX dX3_enter_29 rfl (i := 0) rfl ?_
    obtain ⟨a34, f35, r36, m37, hw⟩ := hw
    refine z_invV hX hd r36 (ci := 4) rfl rfl m37 dX3_enter_30 (hC 275 _ zm275 _ _ _ _ hw) q3069 q3071 qs111 zh7 q3072 q136 zn275 rfl (Nat.le_of_ble_eq_true rfl) (st := []) rfl (zcs8 (Nat.le_of_ble_eq_true rfl)) rfl (zkV (fun s32 hw => ?_)) (zout hX hR hTb)
    exact z_return hX hR dX3_enter_33 hw
  · refine z_icmp_ge hX dX3_enter_7 (tgt := 14) rfl (fun c38 => ?_) (fun c38 => ?_)
    · have hw := hw.1 c38
      refine z_iconst hX (v := (0 : Int32)) dX3_enter_14 (by decide) ?_
      exact hj9 _ _ hw
    · have hw := hw.2 c38
      refine z_iconst hX (v := (1 : Int32)) dX3_enter_10 (by decide) ?_
      refine z_goto hX dX3_enter_11 (tgt := 15) rfl ?_
      exact hj9 _ _ hw
abbrev cX3_emit : ByteArray := prog_28_method_132_code
def yX3_emit : MethodName := ⟨RX3, "emit", "(I)V"⟩
def dkwX3_emit_1 : List UInt8 := [181, 1, 239, 177]
abbrev dktX3_emit_1 : List UInt8 := dkwX3_emit_1 ++ []
def dkwX3_emit_0 : List UInt8 := [42, 180, 1, 152, 154, 0, 23, 42, 180, 0, 93, 42, 180, 1, 239, 27, 79, 42, 89, 180, 1, 239, 4, 96]
abbrev dktX3_emit_0 : List UInt8 := dkwX3_emit_0 ++ dktX3_emit_1
theorem dksX3_emit_0 : cX3_emit.data.toList.drop 0 = dktX3_emit_0 := by decide +kernel
theorem dksX3_emit_1 : cX3_emit.data.toList.drop 24 = dktX3_emit_1 := dk_seg dksX3_emit_0 24 rfl rfl
theorem dX3_emit_0 : decode cX3_emit 0 = .ok (.aload_n 0, 1) := dk_42 (dk_at dksX3_emit_0 0 rfl rfl)
theorem dX3_emit_1 : decode cX3_emit 1 = .ok (.getfield 408, 3) := dk_180 1 152 (dk_at dksX3_emit_0 1 rfl rfl)
theorem dX3_emit_4 : decode cX3_emit 4 = .ok (.ifCond .ne 23, 3) := dk_154 0 23 (dk_at dksX3_emit_0 4 rfl rfl)
theorem dX3_emit_7 : decode cX3_emit 7 = .ok (.aload_n 0, 1) := dk_42 (dk_at dksX3_emit_0 7 rfl rfl)
theorem dX3_emit_8 : decode cX3_emit 8 = .ok (.getfield 93, 3) := dk_180 0 93 (dk_at dksX3_emit_0 8 rfl rfl)
theorem dX3_emit_11 : decode cX3_emit 11 = .ok (.aload_n 0, 1) := dk_42 (dk_at dksX3_emit_0 11 rfl rfl)
theorem dX3_emit_12 : decode cX3_emit 12 = .ok (.getfield 495, 3) := dk_180 1 239 (dk_at dksX3_emit_0 12 rfl rfl)
theorem dX3_emit_15 : decode cX3_emit 15 = .ok (.iload_n 1, 1) := dk_27 (dk_at dksX3_emit_0 15 rfl rfl)
theorem dX3_emit_16 : decode cX3_emit 16 = .ok (.iastore, 1) := dk_79 (dk_at dksX3_emit_0 16 rfl rfl)
theorem dX3_emit_17 : decode cX3_emit 17 = .ok (.aload_n 0, 1) := dk_42 (dk_at dksX3_emit_0 17 rfl rfl)
theorem dX3_emit_18 : decode cX3_emit 18 = .ok (.dup, 1) := dk_89 (dk_at dksX3_emit_0 18 rfl rfl)
theorem dX3_emit_19 : decode cX3_emit 19 = .ok (.getfield 495, 3) := dk_180 1 239 (dk_at dksX3_emit_0 19 rfl rfl)
theorem dX3_emit_22 : decode cX3_emit 22 = .ok (.iconst 1, 1) := dk_4 (dk_at dksX3_emit_0 22 rfl rfl)
theorem dX3_emit_23 : decode cX3_emit 23 = .ok (.iadd, 1) := dk_96 (dk_at dksX3_emit_0 23 rfl rfl)
theorem dX3_emit_24 : decode cX3_emit 24 = .ok (.putfield 495, 3) := dk_181 1 239 (dk_at dksX3_emit_1 0 rfl rfl)
theorem dX3_emit_27 : decode cX3_emit 27 = .ok (.return_, 1) := dk_177 (dk_at dksX3_emit_1 3 rfl rfl)
/-- PackingDuelModel.emit(I)V -/
def zb290 (G : zPg) (C : zO) (args : List Value) (Q : zQ) (Y : zY) (σ : zS) : Prop := ∃ (a0 : Nat) (x1 : Int32), args = [.ref a0, .int x1] ∧ (zgI σ (some a0) 4 33 (fun v1 => zJ (fun  (s7 : zS) => Q none s7) (fun (j8 : zS → Prop) => ((¬ v1 = 0) → j8 σ) ∧ ((v1 = 0) → zgR σ (some a0) 4 38 (fun v10 => zgI σ (some a0) 4 40 (fun v16 => zsI σ G.1 0 v10 v16 x1 (fun s29 => zgI s29 (some a0) 4 40 (fun v31 => zput s29 G.1 (some a0) 4 40 (.int (v31 + (1 : Int32))) (fun s37 => j8 s37)))))))))
set_option maxHeartbeats 4000000 in
theorem wk290 {l : Launch} {g : zG} {d : Nat} {C : zO} (hG : zGk g) (hC : zSound l g d C) {args : List Value} {Q : zQ} {Y : zY} {σ : zS} (hw : zb290 (zpg g) C args Q Y σ) : zMet l g (d + 1) (⟨"PackingDuelModel", "emit", "(I)V"⟩, Cond.code ⟨"PackingDuelModel", "emit", "(I)V"⟩ prog_28_method_132_code 2 (Option.none : Option FieldType)) args σ Q Y := by
  obtain ⟨a0, x1, rfl, hw⟩ := hw
  refine zof hG (by decide +kernel) [false, false] ⟨rfl, rfl, trivial⟩ (Nat.le_of_ble_eq_true rfl) (ls := [some (va_rf (some a0)), some (.int x1)]) rfl ?_
  intro X hX hR hTb hd1 hd2 hl hg hnm
  subst hl
  subst hg
  have hd : zDep X d := ⟨hd1, hd2⟩
  refine z_aload_n hX dX3_emit_0 rfl (i := 0) rfl ?_
  obtain ⟨a2, f3, v1, r4, m5, e6, hw⟩ := hw
  refine z_get hX zc4 (k := 33) dX3_emit_1 (Nat.le_of_ble_eq_true rfl) (zlk hX q2502) r4 m5 e6 ?_
  refine zJ_w (P := fun (j : zS → Prop) => ∀  (s7 : zS), j  s7 → zW X s7 27 [none, none] []) hw (fun  s7 hw => ?_) (fun j8 hj8 hw => ?_)
  · exact z_return hX hR dX3_emit_27 hw
  · refine z_if_ne hX dX3_emit_4 (tgt := 27) rfl (fun c9 => ?_) (fun c9 => ?_)
    · have hw := hw.1 c9
      refine z_sub (ls' := [none, none]) (zsN (zsN (zs0))) ?_
      exact hj8  _ hw
    · have hw := hw.2 c9
      refine z_aload_n hX dX3_emit_7 rfl (i := 0) rfl ?_
      obtain ⟨a11, f12, v10, r13, m14, e15, hw⟩ := hw
      refine z_get hX zc4 (k := 38) dX3_emit_8 (Nat.le_of_ble_eq_true rfl) (zlk hX q2507) r13 m14 e15 ?_
      refine z_aload_n hX dX3_emit_11 rfl (i := 0) rfl ?_
      obtain ⟨a17, f18, v16, r19, m20, e21, hw⟩ := hw
      refine z_get hX zc4 (k := 40) dX3_emit_12 (Nat.le_of_ble_eq_true rfl) (zlk hX q2509) r19 m20 e21 ?_
      refine z_iload_n hX dX3_emit_15 rfl (i := 1) rfl ?_
      obtain ⟨a22, n23, f24, r25, g26, m27, i28, hw⟩ := hw
      refine z_iast hX dX3_emit_16 r25 g26 m27 i28 (z_nm (fun s29 e30 => ?_))
      have hw := hw s29 e30
      refine z_aload_n hX dX3_emit_17 rfl (i := 0) rfl ?_
      refine z_dup hX dX3_emit_18 (zc_rf _) ?_
      obtain ⟨a32, f33, v31, r34, m35, e36, hw⟩ := hw
      refine z_get hX zc4 (k := 40) dX3_emit_19 (Nat.le_of_ble_eq_true rfl) (zlk hX q2509) r34 m35 e36 ?_
      refine z_iconst hX (v := (1 : Int32)) dX3_emit_22 (by decide) ?_
      refine z_iadd hX dX3_emit_23 ?_
      obtain ⟨a39, f40, r41, g42, m43, l44, hw⟩ := hw
      refine z_put hX zc4 (k := 40) dX3_emit_24 (Nat.le_of_ble_eq_true rfl) (zlk hX q2509) rfl rfl rfl r41 g42 m43 l44 (z_nm (fun s37 e38 => ?_))
      have hw := hw s37 e38
      refine z_sub (ls' := [none, none]) (zsN (zsN (zs0))) ?_
      exact hj8  _ hw
abbrev cX3_compileValue : ByteArray := prog_28_method_134_code
def yX3_compileValue : MethodName := ⟨RX3, "compileValue", "()V"⟩
def dkwX3_compileValue_3 : List UInt8 := [167, 0, 4, 3, 4, 182, 1, 178, 42, 2, 27, 100, 182, 1, 242, 42, 182, 1, 181, 177]
abbrev dktX3_compileValue_3 : List UInt8 := dkwX3_compileValue_3 ++ []
def dkwX3_compileValue_2 : List UInt8 := [182, 1, 174, 154, 0, 9, 132, 1, 1, 167, 255, 231, 42, 27, 42, 180, 0, 89, 190, 162, 0, 7, 4]
abbrev dktX3_compileValue_2 : List UInt8 := dkwX3_compileValue_2 ++ dktX3_compileValue_3
def dkwX3_compileValue_1 : List UInt8 := [182, 1, 242, 177, 3, 60, 27, 42, 180, 0, 89, 190, 162, 0, 22, 42, 42, 180, 0, 89, 27, 50]
abbrev dktX3_compileValue_1 : List UInt8 := dkwX3_compileValue_1 ++ dktX3_compileValue_2
def dkwX3_compileValue_0 : List UInt8 := [42, 180, 1, 152, 154, 0, 11, 42, 180, 1, 143, 5, 160, 0, 16, 42, 42, 3, 17, 39, 15, 182, 1, 198]
abbrev dktX3_compileValue_0 : List UInt8 := dkwX3_compileValue_0 ++ dktX3_compileValue_1
theorem dksX3_compileValue_0 : cX3_compileValue.data.toList.drop 0 = dktX3_compileValue_0 := by decide +kernel
theorem dksX3_compileValue_1 : cX3_compileValue.data.toList.drop 24 = dktX3_compileValue_1 := dk_seg dksX3_compileValue_0 24 rfl rfl
theorem dksX3_compileValue_2 : cX3_compileValue.data.toList.drop 46 = dktX3_compileValue_2 := dk_seg dksX3_compileValue_1 22 rfl rfl
theorem dksX3_compileValue_3 : cX3_compileValue.data.toList.drop 69 = dktX3_compileValue_3 := dk_seg dksX3_compileValue_2 23 rfl rfl
theorem dX3_compileValue_0 : decode cX3_compileValue 0 = .ok (.aload_n 0, 1) := dk_42 (dk_at dksX3_compileValue_0 0 rfl rfl)
theorem dX3_compileValue_1 : decode cX3_compileValue 1 = .ok (.getfield 408, 3) := dk_180 1 152 (dk_at dksX3_compileValue_0 1 rfl rfl)
theorem dX3_compileValue_4 : decode cX3_compileValue 4 = .ok (.ifCond .ne 11, 3) := dk_154 0 11 (dk_at dksX3_compileValue_0 4 rfl rfl)
theorem dX3_compileValue_7 : decode cX3_compileValue 7 = .ok (.aload_n 0, 1) := dk_42 (dk_at dksX3_compileValue_0 7 rfl rfl)
theorem dX3_compileValue_8 : decode cX3_compileValue 8 = .ok (.getfield 399, 3) := dk_180 1 143 (dk_at dksX3_compileValue_0 8 rfl rfl)
theorem dX3_compileValue_11 : decode cX3_compileValue 11 = .ok (.iconst 2, 1) := dk_5 (dk_at dksX3_compileValue_0 11 rfl rfl)
theorem dX3_compileValue_12 : decode cX3_compileValue 12 = .ok (.if_icmp .ne 16, 3) := dk_160 0 16 (dk_at dksX3_compileValue_0 12 rfl rfl)
theorem dX3_compileValue_15 : decode cX3_compileValue 15 = .ok (.aload_n 0, 1) := dk_42 (dk_at dksX3_compileValue_0 15 rfl rfl)
theorem dX3_compileValue_16 : decode cX3_compileValue 16 = .ok (.aload_n 0, 1) := dk_42 (dk_at dksX3_compileValue_0 16 rfl rfl)
theorem dX3_compileValue_17 : decode cX3_compileValue 17 = .ok (.iconst 0, 1) := dk_3 (dk_at dksX3_compileValue_0 17 rfl rfl)
theorem dX3_compileValue_18 : decode cX3_compileValue 18 = .ok (.sipush 9999, 3) := dk_17 39 15 (dk_at dksX3_compileValue_0 18 rfl rfl)
theorem dX3_compileValue_21 : decode cX3_compileValue 21 = .ok (.invokevirtual 454, 3) := dk_182 1 198 (dk_at dksX3_compileValue_0 21 rfl rfl)
theorem dX3_compileValue_24 : decode cX3_compileValue 24 = .ok (.invokevirtual 498, 3) := dk_182 1 242 (dk_at dksX3_compileValue_1 0 rfl rfl)
theorem dX3_compileValue_27 : decode cX3_compileValue 27 = .ok (.return_, 1) := dk_177 (dk_at dksX3_compileValue_1 3 rfl rfl)
theorem dX3_compileValue_28 : decode cX3_compileValue 28 = .ok (.iconst 0, 1) := dk_3 (dk_at dksX3_compileValue_1 4 rfl rfl)
theorem dX3_compileValue_29 : decode cX3_compileValue 29 = .ok (.istore_n 1, 1) := dk_60 (dk_at dksX3_compileValue_1 5 rfl rfl)
theorem dX3_compileValue_30 : decode cX3_compileValue 30 = .ok (.iload_n 1, 1) := dk_27 (dk_at dksX3_compileValue_1 6 rfl rfl)
theorem dX3_compileValue_31 : decode cX3_compileValue 31 = .ok (.aload_n 0, 1) := dk_42 (dk_at dksX3_compileValue_1 7 rfl rfl)
theorem dX3_compileValue_32 : decode cX3_compileValue 32 = .ok (.getfield 89, 3) := dk_180 0 89 (dk_at dksX3_compileValue_1 8 rfl rfl)
theorem dX3_compileValue_35 : decode cX3_compileValue 35 = .ok (.arraylength, 1) := dk_190 (dk_at dksX3_compileValue_1 11 rfl rfl)
theorem dX3_compileValue_36 : decode cX3_compileValue 36 = .ok (.if_icmp .ge 22, 3) := dk_162 0 22 (dk_at dksX3_compileValue_1 12 rfl rfl)
theorem dX3_compileValue_39 : decode cX3_compileValue 39 = .ok (.aload_n 0, 1) := dk_42 (dk_at dksX3_compileValue_1 15 rfl rfl)
theorem dX3_compileValue_40 : decode cX3_compileValue 40 = .ok (.aload_n 0, 1) := dk_42 (dk_at dksX3_compileValue_1 16 rfl rfl)
theorem dX3_compileValue_41 : decode cX3_compileValue 41 = .ok (.getfield 89, 3) := dk_180 0 89 (dk_at dksX3_compileValue_1 17 rfl rfl)
theorem dX3_compileValue_44 : decode cX3_compileValue 44 = .ok (.iload_n 1, 1) := dk_27 (dk_at dksX3_compileValue_1 20 rfl rfl)
theorem dX3_compileValue_45 : decode cX3_compileValue 45 = .ok (.aaload, 1) := dk_50 (dk_at dksX3_compileValue_1 21 rfl rfl)
theorem dX3_compileValue_46 : decode cX3_compileValue 46 = .ok (.invokevirtual 430, 3) := dk_182 1 174 (dk_at dksX3_compileValue_2 0 rfl rfl)
theorem dX3_compileValue_49 : decode cX3_compileValue 49 = .ok (.ifCond .ne 9, 3) := dk_154 0 9 (dk_at dksX3_compileValue_2 3 rfl rfl)
theorem dX3_compileValue_52 : decode cX3_compileValue 52 = .ok (.iinc 1 1, 3) := dk_132 1 1 (dk_at dksX3_compileValue_2 6 rfl rfl)
theorem dX3_compileValue_55 : decode cX3_compileValue 55 = .ok (.goto (-25), 3) := dk_167 255 231 (dk_at dksX3_compileValue_2 9 rfl rfl)
theorem dX3_compileValue_58 : decode cX3_compileValue 58 = .ok (.aload_n 0, 1) := dk_42 (dk_at dksX3_compileValue_2 12 rfl rfl)
theorem dX3_compileValue_59 : decode cX3_compileValue 59 = .ok (.iload_n 1, 1) := dk_27 (dk_at dksX3_compileValue_2 13 rfl rfl)
theorem dX3_compileValue_60 : decode cX3_compileValue 60 = .ok (.aload_n 0, 1) := dk_42 (dk_at dksX3_compileValue_2 14 rfl rfl)
theorem dX3_compileValue_61 : decode cX3_compileValue 61 = .ok (.getfield 89, 3) := dk_180 0 89 (dk_at dksX3_compileValue_2 15 rfl rfl)
theorem dX3_compileValue_64 : decode cX3_compileValue 64 = .ok (.arraylength, 1) := dk_190 (dk_at dksX3_compileValue_2 18 rfl rfl)
theorem dX3_compileValue_65 : decode cX3_compileValue 65 = .ok (.if_icmp .ge 7, 3) := dk_162 0 7 (dk_at dksX3_compileValue_2 19 rfl rfl)
theorem dX3_compileValue_68 : decode cX3_compileValue 68 = .ok (.iconst 1, 1) := dk_4 (dk_at dksX3_compileValue_2 22 rfl rfl)
theorem dX3_compileValue_69 : decode cX3_compileValue 69 = .ok (.goto 4, 3) := dk_167 0 4 (dk_at dksX3_compileValue_3 0 rfl rfl)
theorem dX3_compileValue_72 : decode cX3_compileValue 72 = .ok (.iconst 0, 1) := dk_3 (dk_at dksX3_compileValue_3 3 rfl rfl)
theorem dX3_compileValue_73 : decode cX3_compileValue 73 = .ok (.iconst 1, 1) := dk_4 (dk_at dksX3_compileValue_3 4 rfl rfl)
theorem dX3_compileValue_74 : decode cX3_compileValue 74 = .ok (.invokevirtual 434, 3) := dk_182 1 178 (dk_at dksX3_compileValue_3 5 rfl rfl)
theorem dX3_compileValue_77 : decode cX3_compileValue 77 = .ok (.aload_n 0, 1) := dk_42 (dk_at dksX3_compileValue_3 8 rfl rfl)
theorem dX3_compileValue_78 : decode cX3_compileValue 78 = .ok (.iconst (-1), 1) := dk_2 (dk_at dksX3_compileValue_3 9 rfl rfl)
theorem dX3_compileValue_79 : decode cX3_compileValue 79 = .ok (.iload_n 1, 1) := dk_27 (dk_at dksX3_compileValue_3 10 rfl rfl)
theorem dX3_compileValue_80 : decode cX3_compileValue 80 = .ok (.isub, 1) := dk_100 (dk_at dksX3_compileValue_3 11 rfl rfl)
theorem dX3_compileValue_81 : decode cX3_compileValue 81 = .ok (.invokevirtual 498, 3) := dk_182 1 242 (dk_at dksX3_compileValue_3 12 rfl rfl)
theorem dX3_compileValue_84 : decode cX3_compileValue 84 = .ok (.aload_n 0, 1) := dk_42 (dk_at dksX3_compileValue_3 15 rfl rfl)
theorem dX3_compileValue_85 : decode cX3_compileValue 85 = .ok (.invokevirtual 437, 3) := dk_182 1 181 (dk_at dksX3_compileValue_3 16 rfl rfl)
theorem dX3_compileValue_88 : decode cX3_compileValue 88 = .ok (.return_, 1) := dk_177 (dk_at dksX3_compileValue_3 19 rfl rfl)
/-- PackingDuelModel.compileValue()V -/
def zb291 (G : zPg) (C : zO) (args : List Value) (Q : zQ) (Y : zY) (σ : zS) : Prop := ∃ (a0 : Nat), args = [.ref a0] ∧ (zgI σ (some a0) 4 33 (fun v1 => zJ (fun  (s7 : zS) => zrc s7 (some a0) 4 (fun a12 => zcl C 276 [.ref a12, .int (0 : Int32), .int (9999 : Int32)] Y s7 (zqI (fun v9 s10 => zrc s10 (some a0) 4 (fun a19 => zcl C 290 [.ref a19, .int v9] Y s10 (zqV (fun s17 => Q none s17))))))) (fun (j8 : zS → Prop) => ((¬ v1 = 0) → j8 σ) ∧ ((v1 = 0) → zgI σ (some a0) 4 32 (fun v24 => ((¬ v24 = (2 : Int32)) → ∃ n, zIt (fun _ _ => False) (fun rec33 (p31 : Int32) (s32 : zS) => zgR s32 (some a0) 4 37 (fun v34 => zln s32 8 v34 (fun v44 => zJ (fun  (s46 : zS) => zgR s46 (some a0) 4 37 (fun v48 => zln s46 8 v48 (fun v58 => zJ (fun (p60 : Int32) (s61 : zS) => zrc s61 (some a0) 4 (fun a66 => zcl C 273 [.ref a66, .int p60, .int (1 : Int32)] Y s61 (zqV (fun s64 => zrc s64 (some a0) 4 (fun a73 => zcl C 290 [.ref a73, .int ((-1 : Int32) - p31)] Y s64 (zqV (fun s71 => zrc s71 (some a0) 4 (fun a80 => zcl C 275 [.ref a80] Y s71 (zqV (fun s78 => Q none s78)))))))))) (fun (j62 : Int32 → zS → Prop) => ((v58 ≤ p31) → j62 (0 : Int32) s46) ∧ ((¬ v58 ≤ p31) → j62 (1 : Int32) s46))))) (fun (j47 : zS → Prop) => ((v44 ≤ p31) → j47 s32) ∧ ((¬ v44 ≤ p31) → zgR s32 (some a0) 4 37 (fun v86 => zaR s32 8 v86 p31 (fun v98 => zrc s32 (some a0) 4 (fun a103 => zcl C 272 [.ref a103, va_rf v98] Y s32 (zqI (fun v100 s101 => ((¬ v100 = 0) → j47 s101) ∧ ((v100 = 0) → (∀ v108 : Int32, v108 = p31 + (1 : Int32) → rec33 v108 s101)))))))))))) n (0 : Int32) σ) ∧ ((v24 = (2 : Int32)) → j8 σ))))))
set_option maxHeartbeats 4000000 in
theorem wk291 {l : Launch} {g : zG} {d : Nat} {C : zO} (hG : zGk g) (hC : zSound l g d C) {args : List Value} {Q : zQ} {Y : zY} {σ : zS} (hw : zb291 (zpg g) C args Q Y σ) : zMet l g (d + 1) (⟨"PackingDuelModel", "compileValue", "()V"⟩, Cond.code ⟨"PackingDuelModel", "compileValue", "()V"⟩ prog_28_method_134_code 2 (Option.none : Option FieldType)) args σ Q Y := by
  obtain ⟨a0, rfl, hw⟩ := hw
  refine zof hG (by decide +kernel) [false] ⟨rfl, trivial⟩ (Nat.le_of_ble_eq_true rfl) (ls := [some (va_rf (some a0)), none]) rfl ?_
  intro X hX hR hTb hd1 hd2 hl hg hnm
  subst hl
  subst hg
  have hd : zDep X d := ⟨hd1, hd2⟩
  refine z_aload_n hX dX3_compileValue_0 rfl (i := 0) rfl ?_
  obtain ⟨a2, f3, v1, r4, m5, e6, hw⟩ := hw
  refine z_get hX zc4 (k := 33) dX3_compileValue_1 (Nat.le_of_ble_eq_true rfl) (zlk hX q2502) r4 m5 e6 ?_
  refine zJ_w (P := fun (j : zS → Prop) => ∀  (s7 : zS), j  s7 → zW X s7 15 [some (va_rf (some a0)), none] []) hw (fun  s7 hw => ?_) (fun j8 hj8 hw => ?_)
  · refine z_aload_n hX dX3_compileValue_15 rfl (i := 0) rfl ?_
    refine z_aload_n hX dX3_compileValue_16 rfl (i := 0) rfl ?_
    refine z_iconst hX (v := (0 : Int32)) dX3_compileValue_17 (by decide) ?_
    refine z_sipush hX (v := (9999 : Int32)) dX3_compileValue_18 (by decide) ?_
    obtain ⟨a12, f13, r14, m15, hw⟩ := hw
    refine z_invV hX hd r14 (ci := 4) rfl rfl m15 dX3_compileValue_21 (hC 276 _ zm276 _ _ _ _ hw) q3073 q3075 qs112 zh7 q3076 q136 zn276 rfl (Nat.le_of_ble_eq_true rfl) (st := [va_rf (some a0)]) rfl (zcs8 (Nat.le_of_ble_eq_true rfl)) rfl (zkI (fun v9 s10 hw => ?_)) (zout hX hR hTb)
    obtain ⟨a19, f20, r21, m22, hw⟩ := hw
    refine z_invV hX hd r21 (ci := 4) rfl rfl m22 dX3_compileValue_24 (hC 290 _ zm290 _ _ _ _ hw) q3143 q3145 qs125 zh7 q3146 q136 zn290 rfl (Nat.le_of_ble_eq_true rfl) (st := []) rfl (zcs8 (Nat.le_of_ble_eq_true rfl)) rfl (zkV (fun s17 hw => ?_)) (zout hX hR hTb)
    exact z_return hX hR dX3_compileValue_27 hw
  · refine z_if_ne hX dX3_compileValue_4 (tgt := 15) rfl (fun c23 => ?_) (fun c23 => ?_)
    · have hw := hw.1 c23
      exact hj8  _ hw
    · have hw := hw.2 c23
      refine z_aload_n hX dX3_compileValue_7 rfl (i := 0) rfl ?_
      obtain ⟨a25, f26, v24, r27, m28, e29, hw⟩ := hw
      refine z_get hX zc4 (k := 32) dX3_compileValue_8 (Nat.le_of_ble_eq_true rfl) (zlk hX q2501) r27 m28 e29 ?_
      refine z_iconst hX (v := (2 : Int32)) dX3_compileValue_11 (by decide) ?_
      refine z_icmp_ne hX dX3_compileValue_12 (tgt := 28) rfl (fun c30 => ?_) (fun c30 => ?_)
      · have hw := hw.1 c30
        refine z_iconst hX (v := (0 : Int32)) dX3_compileValue_28 (by decide) ?_
        refine z_istore_n hX dX3_compileValue_29 rfl (i := 1) (Nat.le_of_ble_eq_true rfl) (zc_rf _) (ls2 := [some (va_rf (some a0)), some (.int (0 : Int32))]) rfl ?_
        obtain ⟨n110, hw⟩ := hw
        refine zIt_w (P := fun (j : Int32 → zS → Prop) => ∀ (p31 : Int32) (s32 : zS), j p31 s32 → zW X s32 30 [some (va_rf (some a0)), some (.int p31)] []) (fun _ _ h => h.elim) (fun rec33 hrec33 p31 s32 hw => ?_) n110 _ _ hw
        refine z_iload_n hX dX3_compileValue_30 rfl (i := 1) rfl ?_
        refine z_aload_n hX dX3_compileValue_31 rfl (i := 0) rfl ?_
        obtain ⟨a35, f36, v34, r37, m38, e39, hw⟩ := hw
        refine z_get hX zc4 (k := 37) dX3_compileValue_32 (Nat.le_of_ble_eq_true rfl) (zlk hX q2506) r37 m38 e39 ?_
        obtain ⟨a40, n41, r42, m43, hw⟩ := hw
        refine z_alen hX 8 dX3_compileValue_35 r42 m43 ?_
        revert hw
        generalize nI n41.1 = v44
        intro hw
        refine zJ_w (P := fun (j : zS → Prop) => ∀  (s46 : zS), j  s46 → zW X s46 58 [some (va_rf (some a0)), some (.int p31)] []) hw (fun  s46 hw => ?_) (fun j47 hj47 hw => ?_)
        · refine z_aload_n hX dX3_compileValue_58 rfl (i := 0) rfl ?_
          refine z_iload_n hX dX3_compileValue_59 rfl (i := 1) rfl ?_
          refine z_aload_n hX dX3_compileValue_60 rfl (i := 0) rfl ?_
          obtain ⟨a49, f50, v48, r51, m52, e53, hw⟩ := hw
          refine z_get hX zc4 (k := 37) dX3_compileValue_61 (Nat.le_of_ble_eq_true rfl) (zlk hX q2506) r51 m52 e53 ?_
          obtain ⟨a54, n55, r56, m57, hw⟩ := hw
          refine z_alen hX 8 dX3_compileValue_64 r56 m57 ?_
          revert hw
          generalize nI n55.1 = v58
          intro hw
          refine zJ_w (P := fun (j : Int32 → zS → Prop) => ∀ (p60 : Int32) (s61 : zS), j p60 s61 → zW X s61 73 [some (va_rf (some a0)), some (.int p31)] [.int p60, va_rf (some a0)]) hw (fun p60 s61 hw => ?_) (fun j62 hj62 hw => ?_)
          · refine z_iconst hX (v := (1 : Int32)) dX3_compileValue_73 (by decide) ?_
            obtain ⟨a66, f67, r68, m69, hw⟩ := hw
            refine z_invV hX hd r68 (ci := 4) rfl rfl m69 dX3_compileValue_74 (hC 273 _ zm273 _ _ _ _ hw) q3061 q3063 qs109 zh7 q3064 q136 zn273 rfl (Nat.le_of_ble_eq_true rfl) (st := []) rfl (zcs8 (Nat.le_of_ble_eq_true rfl)) rfl (zkV (fun s64 hw => ?_)) (zout hX hR hTb)
            refine z_aload_n hX dX3_compileValue_77 rfl (i := 0) rfl ?_
            refine z_iconst hX (v := (-1 : Int32)) dX3_compileValue_78 (by decide) ?_
            refine z_iload_n hX dX3_compileValue_79 rfl (i := 1) rfl ?_
            refine z_isub hX dX3_compileValue_80 ?_
            obtain ⟨a73, f74, r75, m76, hw⟩ := hw
            refine z_invV hX hd r75 (ci := 4) rfl rfl m76 dX3_compileValue_81 (hC 290 _ zm290 _ _ _ _ hw) q3143 q3145 qs125 zh7 q3146 q136 zn290 rfl (Nat.le_of_ble_eq_true rfl) (st := []) rfl (zcs8 (Nat.le_of_ble_eq_true rfl)) rfl (zkV (fun s71 hw => ?_)) (zout hX hR hTb)
            refine z_aload_n hX dX3_compileValue_84 rfl (i := 0) rfl ?_
            obtain ⟨a80, f81, r82, m83, hw⟩ := hw
            refine z_invV hX hd r82 (ci := 4) rfl rfl m83 dX3_compileValue_85 (hC 275 _ zm275 _ _ _ _ hw) q3069 q3071 qs111 zh7 q3072 q136 zn275 rfl (Nat.le_of_ble_eq_true rfl) (st := []) rfl (zcs8 (Nat.le_of_ble_eq_true rfl)) rfl (zkV (fun s78 hw => ?_)) (zout hX hR hTb)
            exact z_return hX hR dX3_compileValue_88 hw
          · refine z_icmp_ge hX dX3_compileValue_65 (tgt := 72) rfl (fun c84 => ?_) (fun c84 => ?_)
            · have hw := hw.1 c84
              refine z_iconst hX (v := (0 : Int32)) dX3_compileValue_72 (by decide) ?_
              exact hj62 _ _ hw
            · have hw := hw.2 c84
              refine z_iconst hX (v := (1 : Int32)) dX3_compileValue_68 (by decide) ?_
              refine z_goto hX dX3_compileValue_69 (tgt := 73) rfl ?_
              exact hj62 _ _ hw
        · refine z_icmp_ge hX dX3_compileValue_36 (tgt := 58) rfl (fun c85 => ?_) (fun c85 => ?_)
          · have hw := hw.1 c85
            exact hj47  _ hw
          · have hw := hw.2 c85
            refine z_aload_n hX dX3_compileValue_39 rfl (i := 0) rfl ?_
            refine z_aload_n hX dX3_compileValue_40 rfl (i := 0) rfl ?_
            obtain ⟨a87, f88, v86, r89, m90, e91, hw⟩ := hw
            refine z_get hX zc4 (k := 37) dX3_compileValue_41 (Nat.le_of_ble_eq_true rfl) (zlk hX q2506) r89 m90 e91 ?_
            refine z_iload_n hX dX3_compileValue_44 rfl (i := 1) rfl ?_
            obtain ⟨a92, n93, f94, r95, m96, i97, hw⟩ := hw
            refine z_aald hX 8 dX3_compileValue_45 rfl r95 m96 i97 ?_
            revert hw
            generalize f94 (Int32.toNatClampNeg p31) = v98
            intro hw
            obtain ⟨a103, f104, r105, m106, hw⟩ := hw
            refine z_invV hX hd r105 (ci := 4) rfl rfl m106 dX3_compileValue_46 (hC 272 _ zm272 _ _ _ _ hw) q3055 q3057 qs108 zh7 q3058 q136 zn272 rfl (Nat.le_of_ble_eq_true rfl) (st := []) rfl (zcs8 (Nat.le_of_ble_eq_true rfl)) rfl (zkI (fun v100 s101 hw => ?_)) (zout hX hR hTb)
            refine z_if_ne hX dX3_compileValue_49 (tgt := 58) rfl (fun c107 => ?_) (fun c107 => ?_)
            · have hw := hw.1 c107
              exact hj47  _ hw
            · have hw := hw.2 c107
              obtain ⟨v108, e109⟩ : ∃ y : Int32, y = p31 + (1 : Int32) := ⟨_, rfl⟩
              refine z_iinc hX dX3_compileValue_52 (i := 1) (v := v108) rfl (by rw [e109]; rfl) (Nat.le_of_ble_eq_true rfl) (zc_rf _) (ls2 := [some (va_rf (some a0)), some (.int v108)]) rfl ?_
              have hw := hw v108 e109
              refine z_goto hX dX3_compileValue_55 (tgt := 30) rfl ?_
              exact hrec33 _ _ hw
      · have hw := hw.2 c30
        exact hj8  _ hw
abbrev cX3_holdsFor : ByteArray := prog_28_method_140_code
def yX3_holdsFor : MethodName := ⟨RX3, "holdsFor", "(I)Z"⟩
def dkwX3_holdsFor_5 : List UInt8 := [132, 3, 1, 167, 255, 139, 42, 180, 0, 96, 3, 47, 10, 148, 154, 0, 7, 4, 167, 0, 4, 3, 172]
abbrev dktX3_holdsFor_5 : List UInt8 := dkwX3_holdsFor_5 ++ []
def dkwX3_holdsFor_4 : List UInt8 := [4, 100, 21, 4, 42, 180, 0, 96, 28, 4, 100, 47, 42, 180, 0, 96, 28, 47, 184, 2, 13, 80]
abbrev dktX3_holdsFor_4 : List UInt8 := dkwX3_holdsFor_4 ++ dktX3_holdsFor_5
def dkwX3_holdsFor_3 : List UInt8 := [27, 2, 21, 4, 100, 182, 2, 10, 133, 80, 132, 2, 1, 167, 0, 33, 132, 2, 255, 42, 180, 0, 96, 28]
abbrev dktX3_holdsFor_3 : List UInt8 := dkwX3_holdsFor_3 ++ dktX3_holdsFor_4
def dkwX3_holdsFor_2 : List UInt8 := [21, 4, 16, 236, 164, 0, 36, 42, 180, 0, 96, 28, 21, 4, 155, 0, 9, 21, 4, 133, 167, 0, 13, 42]
abbrev dktX3_holdsFor_2 : List UInt8 := dkwX3_holdsFor_2 ++ dktX3_holdsFor_3
def dkwX3_holdsFor_1 : List UInt8 := [160, 0, 24, 42, 180, 0, 96, 28, 4, 100, 10, 42, 180, 0, 96, 28, 4, 100, 47, 101, 80, 167, 0, 73]
abbrev dktX3_holdsFor_1 : List UInt8 := dkwX3_holdsFor_1 ++ dktX3_holdsFor_2
def dkwX3_holdsFor_0 : List UInt8 := [3, 61, 3, 62, 29, 42, 180, 1, 239, 162, 0, 115, 42, 180, 0, 93, 29, 46, 54, 4, 21, 4, 16, 233]
abbrev dktX3_holdsFor_0 : List UInt8 := dkwX3_holdsFor_0 ++ dktX3_holdsFor_1
theorem dksX3_holdsFor_0 : cX3_holdsFor.data.toList.drop 0 = dktX3_holdsFor_0 := by decide +kernel
theorem dksX3_holdsFor_1 : cX3_holdsFor.data.toList.drop 24 = dktX3_holdsFor_1 := dk_seg dksX3_holdsFor_0 24 rfl rfl
theorem dksX3_holdsFor_2 : cX3_holdsFor.data.toList.drop 48 = dktX3_holdsFor_2 := dk_seg dksX3_holdsFor_1 24 rfl rfl
theorem dksX3_holdsFor_3 : cX3_holdsFor.data.toList.drop 72 = dktX3_holdsFor_3 := dk_seg dksX3_holdsFor_2 24 rfl rfl
theorem dksX3_holdsFor_4 : cX3_holdsFor.data.toList.drop 96 = dktX3_holdsFor_4 := dk_seg dksX3_holdsFor_3 24 rfl rfl
theorem dksX3_holdsFor_5 : cX3_holdsFor.data.toList.drop 118 = dktX3_holdsFor_5 := dk_seg dksX3_holdsFor_4 22 rfl rfl
theorem dX3_holdsFor_0 : decode cX3_holdsFor 0 = .ok (.iconst 0, 1) := dk_3 (dk_at dksX3_holdsFor_0 0 rfl rfl)
theorem dX3_holdsFor_1 : decode cX3_holdsFor 1 = .ok (.istore_n 2, 1) := dk_61 (dk_at dksX3_holdsFor_0 1 rfl rfl)
theorem dX3_holdsFor_2 : decode cX3_holdsFor 2 = .ok (.iconst 0, 1) := dk_3 (dk_at dksX3_holdsFor_0 2 rfl rfl)
theorem dX3_holdsFor_3 : decode cX3_holdsFor 3 = .ok (.istore_n 3, 1) := dk_62 (dk_at dksX3_holdsFor_0 3 rfl rfl)
theorem dX3_holdsFor_4 : decode cX3_holdsFor 4 = .ok (.iload_n 3, 1) := dk_29 (dk_at dksX3_holdsFor_0 4 rfl rfl)
theorem dX3_holdsFor_5 : decode cX3_holdsFor 5 = .ok (.aload_n 0, 1) := dk_42 (dk_at dksX3_holdsFor_0 5 rfl rfl)
theorem dX3_holdsFor_6 : decode cX3_holdsFor 6 = .ok (.getfield 495, 3) := dk_180 1 239 (dk_at dksX3_holdsFor_0 6 rfl rfl)
theorem dX3_holdsFor_9 : decode cX3_holdsFor 9 = .ok (.if_icmp .ge 115, 3) := dk_162 0 115 (dk_at dksX3_holdsFor_0 9 rfl rfl)
theorem dX3_holdsFor_12 : decode cX3_holdsFor 12 = .ok (.aload_n 0, 1) := dk_42 (dk_at dksX3_holdsFor_0 12 rfl rfl)
theorem dX3_holdsFor_13 : decode cX3_holdsFor 13 = .ok (.getfield 93, 3) := dk_180 0 93 (dk_at dksX3_holdsFor_0 13 rfl rfl)
theorem dX3_holdsFor_16 : decode cX3_holdsFor 16 = .ok (.iload_n 3, 1) := dk_29 (dk_at dksX3_holdsFor_0 16 rfl rfl)
theorem dX3_holdsFor_17 : decode cX3_holdsFor 17 = .ok (.iaload, 1) := dk_46 (dk_at dksX3_holdsFor_0 17 rfl rfl)
theorem dX3_holdsFor_18 : decode cX3_holdsFor 18 = .ok (.istore 4, 2) := dk_54 4 (dk_at dksX3_holdsFor_0 18 rfl rfl)
theorem dX3_holdsFor_20 : decode cX3_holdsFor 20 = .ok (.iload 4, 2) := dk_21 4 (dk_at dksX3_holdsFor_0 20 rfl rfl)
theorem dX3_holdsFor_22 : decode cX3_holdsFor 22 = .ok (.bipush (-23), 2) := dk_16 233 (dk_at dksX3_holdsFor_0 22 rfl rfl)
theorem dX3_holdsFor_24 : decode cX3_holdsFor 24 = .ok (.if_icmp .ne 24, 3) := dk_160 0 24 (dk_at dksX3_holdsFor_1 0 rfl rfl)
theorem dX3_holdsFor_27 : decode cX3_holdsFor 27 = .ok (.aload_n 0, 1) := dk_42 (dk_at dksX3_holdsFor_1 3 rfl rfl)
theorem dX3_holdsFor_28 : decode cX3_holdsFor 28 = .ok (.getfield 96, 3) := dk_180 0 96 (dk_at dksX3_holdsFor_1 4 rfl rfl)
theorem dX3_holdsFor_31 : decode cX3_holdsFor 31 = .ok (.iload_n 2, 1) := dk_28 (dk_at dksX3_holdsFor_1 7 rfl rfl)
theorem dX3_holdsFor_32 : decode cX3_holdsFor 32 = .ok (.iconst 1, 1) := dk_4 (dk_at dksX3_holdsFor_1 8 rfl rfl)
theorem dX3_holdsFor_33 : decode cX3_holdsFor 33 = .ok (.isub, 1) := dk_100 (dk_at dksX3_holdsFor_1 9 rfl rfl)
theorem dX3_holdsFor_34 : decode cX3_holdsFor 34 = .ok (.lconst 1, 1) := dk_10 (dk_at dksX3_holdsFor_1 10 rfl rfl)
theorem dX3_holdsFor_35 : decode cX3_holdsFor 35 = .ok (.aload_n 0, 1) := dk_42 (dk_at dksX3_holdsFor_1 11 rfl rfl)
theorem dX3_holdsFor_36 : decode cX3_holdsFor 36 = .ok (.getfield 96, 3) := dk_180 0 96 (dk_at dksX3_holdsFor_1 12 rfl rfl)
theorem dX3_holdsFor_39 : decode cX3_holdsFor 39 = .ok (.iload_n 2, 1) := dk_28 (dk_at dksX3_holdsFor_1 15 rfl rfl)
theorem dX3_holdsFor_40 : decode cX3_holdsFor 40 = .ok (.iconst 1, 1) := dk_4 (dk_at dksX3_holdsFor_1 16 rfl rfl)
theorem dX3_holdsFor_41 : decode cX3_holdsFor 41 = .ok (.isub, 1) := dk_100 (dk_at dksX3_holdsFor_1 17 rfl rfl)
theorem dX3_holdsFor_42 : decode cX3_holdsFor 42 = .ok (.laload, 1) := dk_47 (dk_at dksX3_holdsFor_1 18 rfl rfl)
theorem dX3_holdsFor_43 : decode cX3_holdsFor 43 = .ok (.lsub, 1) := dk_101 (dk_at dksX3_holdsFor_1 19 rfl rfl)
theorem dX3_holdsFor_44 : decode cX3_holdsFor 44 = .ok (.lastore, 1) := dk_80 (dk_at dksX3_holdsFor_1 20 rfl rfl)
theorem dX3_holdsFor_45 : decode cX3_holdsFor 45 = .ok (.goto 73, 3) := dk_167 0 73 (dk_at dksX3_holdsFor_1 21 rfl rfl)
theorem dX3_holdsFor_48 : decode cX3_holdsFor 48 = .ok (.iload 4, 2) := dk_21 4 (dk_at dksX3_holdsFor_2 0 rfl rfl)
theorem dX3_holdsFor_50 : decode cX3_holdsFor 50 = .ok (.bipush (-20), 2) := dk_16 236 (dk_at dksX3_holdsFor_2 2 rfl rfl)
theorem dX3_holdsFor_52 : decode cX3_holdsFor 52 = .ok (.if_icmp .le 36, 3) := dk_164 0 36 (dk_at dksX3_holdsFor_2 4 rfl rfl)
theorem dX3_holdsFor_55 : decode cX3_holdsFor 55 = .ok (.aload_n 0, 1) := dk_42 (dk_at dksX3_holdsFor_2 7 rfl rfl)
theorem dX3_holdsFor_56 : decode cX3_holdsFor 56 = .ok (.getfield 96, 3) := dk_180 0 96 (dk_at dksX3_holdsFor_2 8 rfl rfl)
theorem dX3_holdsFor_59 : decode cX3_holdsFor 59 = .ok (.iload_n 2, 1) := dk_28 (dk_at dksX3_holdsFor_2 11 rfl rfl)
theorem dX3_holdsFor_60 : decode cX3_holdsFor 60 = .ok (.iload 4, 2) := dk_21 4 (dk_at dksX3_holdsFor_2 12 rfl rfl)
theorem dX3_holdsFor_62 : decode cX3_holdsFor 62 = .ok (.ifCond .lt 9, 3) := dk_155 0 9 (dk_at dksX3_holdsFor_2 14 rfl rfl)
theorem dX3_holdsFor_65 : decode cX3_holdsFor 65 = .ok (.iload 4, 2) := dk_21 4 (dk_at dksX3_holdsFor_2 17 rfl rfl)
theorem dX3_holdsFor_67 : decode cX3_holdsFor 67 = .ok (.i2l, 1) := dk_133 (dk_at dksX3_holdsFor_2 19 rfl rfl)
theorem dX3_holdsFor_68 : decode cX3_holdsFor 68 = .ok (.goto 13, 3) := dk_167 0 13 (dk_at dksX3_holdsFor_2 20 rfl rfl)
theorem dX3_holdsFor_71 : decode cX3_holdsFor 71 = .ok (.aload_n 0, 1) := dk_42 (dk_at dksX3_holdsFor_2 23 rfl rfl)
theorem dX3_holdsFor_72 : decode cX3_holdsFor 72 = .ok (.iload_n 1, 1) := dk_27 (dk_at dksX3_holdsFor_3 0 rfl rfl)
theorem dX3_holdsFor_73 : decode cX3_holdsFor 73 = .ok (.iconst (-1), 1) := dk_2 (dk_at dksX3_holdsFor_3 1 rfl rfl)
theorem dX3_holdsFor_74 : decode cX3_holdsFor 74 = .ok (.iload 4, 2) := dk_21 4 (dk_at dksX3_holdsFor_3 2 rfl rfl)
theorem dX3_holdsFor_76 : decode cX3_holdsFor 76 = .ok (.isub, 1) := dk_100 (dk_at dksX3_holdsFor_3 4 rfl rfl)
theorem dX3_holdsFor_77 : decode cX3_holdsFor 77 = .ok (.invokevirtual 522, 3) := dk_182 2 10 (dk_at dksX3_holdsFor_3 5 rfl rfl)
theorem dX3_holdsFor_80 : decode cX3_holdsFor 80 = .ok (.i2l, 1) := dk_133 (dk_at dksX3_holdsFor_3 8 rfl rfl)
theorem dX3_holdsFor_81 : decode cX3_holdsFor 81 = .ok (.lastore, 1) := dk_80 (dk_at dksX3_holdsFor_3 9 rfl rfl)
theorem dX3_holdsFor_82 : decode cX3_holdsFor 82 = .ok (.iinc 2 1, 3) := dk_132 2 1 (dk_at dksX3_holdsFor_3 10 rfl rfl)
theorem dX3_holdsFor_85 : decode cX3_holdsFor 85 = .ok (.goto 33, 3) := dk_167 0 33 (dk_at dksX3_holdsFor_3 13 rfl rfl)
theorem dX3_holdsFor_88 : decode cX3_holdsFor 88 = .ok (.iinc 2 (-1), 3) := dk_132 2 255 (dk_at dksX3_holdsFor_3 16 rfl rfl)
theorem dX3_holdsFor_91 : decode cX3_holdsFor 91 = .ok (.aload_n 0, 1) := dk_42 (dk_at dksX3_holdsFor_3 19 rfl rfl)
theorem dX3_holdsFor_92 : decode cX3_holdsFor 92 = .ok (.getfield 96, 3) := dk_180 0 96 (dk_at dksX3_holdsFor_3 20 rfl rfl)
theorem dX3_holdsFor_95 : decode cX3_holdsFor 95 = .ok (.iload_n 2, 1) := dk_28 (dk_at dksX3_holdsFor_3 23 rfl rfl)
theorem dX3_holdsFor_96 : decode cX3_holdsFor 96 = .ok (.iconst 1, 1) := dk_4 (dk_at dksX3_holdsFor_4 0 rfl rfl)
theorem dX3_holdsFor_97 : decode cX3_holdsFor 97 = .ok (.isub, 1) := dk_100 (dk_at dksX3_holdsFor_4 1 rfl rfl)
theorem dX3_holdsFor_98 : decode cX3_holdsFor 98 = .ok (.iload 4, 2) := dk_21 4 (dk_at dksX3_holdsFor_4 2 rfl rfl)
theorem dX3_holdsFor_100 : decode cX3_holdsFor 100 = .ok (.aload_n 0, 1) := dk_42 (dk_at dksX3_holdsFor_4 4 rfl rfl)
theorem dX3_holdsFor_101 : decode cX3_holdsFor 101 = .ok (.getfield 96, 3) := dk_180 0 96 (dk_at dksX3_holdsFor_4 5 rfl rfl)
theorem dX3_holdsFor_104 : decode cX3_holdsFor 104 = .ok (.iload_n 2, 1) := dk_28 (dk_at dksX3_holdsFor_4 8 rfl rfl)
theorem dX3_holdsFor_105 : decode cX3_holdsFor 105 = .ok (.iconst 1, 1) := dk_4 (dk_at dksX3_holdsFor_4 9 rfl rfl)
theorem dX3_holdsFor_106 : decode cX3_holdsFor 106 = .ok (.isub, 1) := dk_100 (dk_at dksX3_holdsFor_4 10 rfl rfl)
theorem dX3_holdsFor_107 : decode cX3_holdsFor 107 = .ok (.laload, 1) := dk_47 (dk_at dksX3_holdsFor_4 11 rfl rfl)
theorem dX3_holdsFor_108 : decode cX3_holdsFor 108 = .ok (.aload_n 0, 1) := dk_42 (dk_at dksX3_holdsFor_4 12 rfl rfl)
theorem dX3_holdsFor_109 : decode cX3_holdsFor 109 = .ok (.getfield 96, 3) := dk_180 0 96 (dk_at dksX3_holdsFor_4 13 rfl rfl)
theorem dX3_holdsFor_112 : decode cX3_holdsFor 112 = .ok (.iload_n 2, 1) := dk_28 (dk_at dksX3_holdsFor_4 16 rfl rfl)
theorem dX3_holdsFor_113 : decode cX3_holdsFor 113 = .ok (.laload, 1) := dk_47 (dk_at dksX3_holdsFor_4 17 rfl rfl)
theorem dX3_holdsFor_114 : decode cX3_holdsFor 114 = .ok (.invokestatic 525, 3) := dk_184 2 13 (dk_at dksX3_holdsFor_4 18 rfl rfl)
theorem dX3_holdsFor_117 : decode cX3_holdsFor 117 = .ok (.lastore, 1) := dk_80 (dk_at dksX3_holdsFor_4 21 rfl rfl)
theorem dX3_holdsFor_118 : decode cX3_holdsFor 118 = .ok (.iinc 3 1, 3) := dk_132 3 1 (dk_at dksX3_holdsFor_5 0 rfl rfl)
theorem dX3_holdsFor_121 : decode cX3_holdsFor 121 = .ok (.goto (-117), 3) := dk_167 255 139 (dk_at dksX3_holdsFor_5 3 rfl rfl)
theorem dX3_holdsFor_124 : decode cX3_holdsFor 124 = .ok (.aload_n 0, 1) := dk_42 (dk_at dksX3_holdsFor_5 6 rfl rfl)
theorem dX3_holdsFor_125 : decode cX3_holdsFor 125 = .ok (.getfield 96, 3) := dk_180 0 96 (dk_at dksX3_holdsFor_5 7 rfl rfl)
theorem dX3_holdsFor_128 : decode cX3_holdsFor 128 = .ok (.iconst 0, 1) := dk_3 (dk_at dksX3_holdsFor_5 10 rfl rfl)
theorem dX3_holdsFor_129 : decode cX3_holdsFor 129 = .ok (.laload, 1) := dk_47 (dk_at dksX3_holdsFor_5 11 rfl rfl)
theorem dX3_holdsFor_130 : decode cX3_holdsFor 130 = .ok (.lconst 1, 1) := dk_10 (dk_at dksX3_holdsFor_5 12 rfl rfl)
theorem dX3_holdsFor_131 : decode cX3_holdsFor 131 = .ok (.lcmp, 1) := dk_148 (dk_at dksX3_holdsFor_5 13 rfl rfl)
theorem dX3_holdsFor_132 : decode cX3_holdsFor 132 = .ok (.ifCond .ne 7, 3) := dk_154 0 7 (dk_at dksX3_holdsFor_5 14 rfl rfl)
theorem dX3_holdsFor_135 : decode cX3_holdsFor 135 = .ok (.iconst 1, 1) := dk_4 (dk_at dksX3_holdsFor_5 17 rfl rfl)
theorem dX3_holdsFor_136 : decode cX3_holdsFor 136 = .ok (.goto 4, 3) := dk_167 0 4 (dk_at dksX3_holdsFor_5 18 rfl rfl)
theorem dX3_holdsFor_139 : decode cX3_holdsFor 139 = .ok (.iconst 0, 1) := dk_3 (dk_at dksX3_holdsFor_5 21 rfl rfl)
theorem dX3_holdsFor_140 : decode cX3_holdsFor 140 = .ok (.ireturn, 1) := dk_172 (dk_at dksX3_holdsFor_5 22 rfl rfl)
/-- PackingDuelModel.holdsFor(I)Z -/
def zb292 (G : zPg) (C : zO) (args : List Value) (Q : zQ) (Y : zY) (σ : zS) : Prop := ∃ (a0 : Nat) (x1 : Int32), args = [.ref a0, .int x1] ∧ (∃ n, zIt (fun _ _ _ => False) (fun rec4 (p1 : Int32) (p2 : Int32) (s3 : zS) => zgI s3 (some a0) 4 40 (fun v5 => ((v5 ≤ p2) → zgR s3 (some a0) 4 39 (fun v12 => zaL s3 v12 (0 : Int32) (fun v24 => zJ (fun (p26 : Int32) (s27 : zS) => zbool p26 ∧ Q (some (.int p26)) s27) (fun (j28 : Int32 → zS → Prop) => ((¬ (lg_cmp v24 (1 : Int64)) = 0) → j28 (0 : Int32) s3) ∧ (((lg_cmp v24 (1 : Int64)) = 0) → j28 (1 : Int32) s3))))) ∧ ((¬ v5 ≤ p2) → zgR s3 (some a0) 4 38 (fun v30 => zaI s3 0 v30 p2 (fun v42 => zJ (fun (p44 : Int32) (s45 : zS) => (∀ v47 : Int32, v47 = p2 + (1 : Int32) → rec4 p44 v47 s45)) (fun (j46 : Int32 → zS → Prop) => ((¬ v42 = (-23 : Int32)) → ((v42 ≤ (-20 : Int32)) → (∀ v51 : Int32, v51 = p1 + (-1 : Int32) → zgR s3 (some a0) 4 39 (fun v53 => zgR s3 (some a0) 4 39 (fun v59 => zaL s3 v59 (v51 - (1 : Int32)) (fun v71 => zgR s3 (some a0) 4 39 (fun v73 => zaL s3 v73 v51 (fun v85 => zcl C 294 [.int v42, .long v71, .long v85] Y s3 (zqL (fun v87 s88 => zsL s88 G.1 v53 (v51 - (1 : Int32)) v87 (fun s97 => j46 v51 s97)))))))))) ∧ ((¬ v42 ≤ (-20 : Int32)) → zgR s3 (some a0) 4 39 (fun v99 => zJ (fun (p105 : Int64) (s106 : zS) => zsL s106 G.1 v99 p1 p105 (fun s115 => (∀ v117 : Int32, v117 = p1 + (1 : Int32) → j46 v117 s115))) (fun (j107 : Int64 → zS → Prop) => ((v42 < 0) → zrc s3 (some a0) 4 (fun a123 => zcl C 293 [.ref a123, .int x1, .int ((-1 : Int32) - v42)] Y s3 (zqI (fun v120 s121 => j107 v120.toInt64 s121)))) ∧ ((¬ v42 < 0) → j107 v42.toInt64 s3))))) ∧ ((v42 = (-23 : Int32)) → zgR s3 (some a0) 4 39 (fun v127 => zgR s3 (some a0) 4 39 (fun v133 => zaL s3 v133 (p1 - (1 : Int32)) (fun v145 => zsL s3 G.1 v127 (p1 - (1 : Int32)) ((1 : Int64) - v145) (fun s154 => j46 p1 s154))))))))))) n (0 : Int32) (0 : Int32) σ)
set_option maxHeartbeats 4000000 in
theorem wk292 {l : Launch} {g : zG} {d : Nat} {C : zO} (hG : zGk g) (hC : zSound l g d C) {args : List Value} {Q : zQ} {Y : zY} {σ : zS} (hw : zb292 (zpg g) C args Q Y σ) : zMet l g (d + 1) (⟨"PackingDuelModel", "holdsFor", "(I)Z"⟩, Cond.code ⟨"PackingDuelModel", "holdsFor", "(I)Z"⟩ prog_28_method_140_code 5 (Option.some FieldType.boolean)) args σ Q Y := by
  obtain ⟨a0, x1, rfl, hw⟩ := hw
  refine zof hG (by decide +kernel) [false, false] ⟨rfl, rfl, trivial⟩ (Nat.le_of_ble_eq_true rfl) (ls := [some (va_rf (some a0)), some (.int x1), none, none, none]) rfl ?_
  intro X hX hR hTb hd1 hd2 hl hg hnm
  subst hl
  subst hg
  have hd : zDep X d := ⟨hd1, hd2⟩
  refine z_iconst hX (v := (0 : Int32)) dX3_holdsFor_0 (by decide) ?_
  refine z_istore_n hX dX3_holdsFor_1 rfl (i := 2) (Nat.le_of_ble_eq_true rfl) rfl (ls2 := [some (va_rf (some a0)), some (.int x1), some (.int (0 : Int32)), none, none]) rfl ?_
  refine z_iconst hX (v := (0 : Int32)) dX3_holdsFor_2 (by decide) ?_
  refine z_istore_n hX dX3_holdsFor_3 rfl (i := 3) (Nat.le_of_ble_eq_true rfl) rfl (ls2 := [some (va_rf (some a0)), some (.int x1), some (.int (0 : Int32)), some (.int (0 : Int32)), none]) rfl ?_
  obtain ⟨n156, hw⟩ := hw
  refine zIt_w (P := fun (j : Int32 → Int32 → zS → Prop) => ∀ (p1 : Int32) (p2 : Int32) (s3 : zS), j p1 p2 s3 → zW X s3 4 [some (va_rf (some a0)), some (.int x1), some (.int p1), some (.int p2), none] []) (fun _ _ _ h => h.elim) (fun rec4 hrec4 p1 p2 s3 hw => ?_) n156 _ _ _ hw
  refine z_iload_n hX dX3_holdsFor_4 rfl (i := 3) rfl ?_
  refine z_aload_n hX dX3_holdsFor_5 rfl (i := 0) rfl ?_
  obtain ⟨a6, f7, v5, r8, m9, e10, hw⟩ := hw
  refine z_get hX zc4 (k := 40) dX3_holdsFor_6 (Nat.le_of_ble_eq_true rfl) (zlk hX q2509) r8 m9 e10 ?_
  refine z_icmp_ge hX dX3_holdsFor_9 (tgt := 124) rfl (fun c11 => ?_) (fun c11 => ?_)
  · have hw := hw.1 c11
    refine z_aload_n hX dX3_holdsFor_124 rfl (i := 0) rfl ?_
    obtain ⟨a13, f14, v12, r15, m16, e17, hw⟩ := hw
    refine z_get hX zc4 (k := 39) dX3_holdsFor_125 (Nat.le_of_ble_eq_true rfl) (zlk hX q2508) r15 m16 e17 ?_
    refine z_iconst hX (v := (0 : Int32)) dX3_holdsFor_128 (by decide) ?_
    obtain ⟨a18, n19, f20, r21, m22, i23, hw⟩ := hw
    refine z_lald hX dX3_holdsFor_129 r21 m22 i23 ?_
    revert hw
    generalize f20 (Int32.toNatClampNeg (0 : Int32)) = v24
    intro hw
    refine z_lconst hX (v := (1 : Int64)) dX3_holdsFor_130 (by decide) ?_
    refine z_lcmp hX dX3_holdsFor_131 ?_
    refine zJ_w (P := fun (j : Int32 → zS → Prop) => ∀ (p26 : Int32) (s27 : zS), j p26 s27 → zW X s27 140 [none, none, none, none, none] [.int p26]) hw (fun p26 s27 hw => ?_) (fun j28 hj28 hw => ?_)
    · exact z_ireturn hX hR dX3_holdsFor_140 (zn_z hw.1) hw.2
    · refine z_if_ne hX dX3_holdsFor_132 (tgt := 139) rfl (fun c29 => ?_) (fun c29 => ?_)
      · have hw := hw.1 c29
        refine z_iconst hX (v := (0 : Int32)) dX3_holdsFor_139 (by decide) ?_
        refine z_sub (ls' := [none, none, none, none, none]) (zsN (zsN (zsN (zsN (zsN (zs0)))))) ?_
        exact hj28 _ _ hw
      · have hw := hw.2 c29
        refine z_iconst hX (v := (1 : Int32)) dX3_holdsFor_135 (by decide) ?_
        refine z_goto hX dX3_holdsFor_136 (tgt := 140) rfl ?_
        refine z_sub (ls' := [none, none, none, none, none]) (zsN (zsN (zsN (zsN (zsN (zs0)))))) ?_
        exact hj28 _ _ hw
  · have hw := hw.2 c11
    refine z_aload_n hX dX3_holdsFor_12 rfl (i := 0) rfl ?_
    obtain ⟨a31, f32, v30, r33, m34, e35, hw⟩ := hw
    refine z_get hX zc4 (k := 38) dX3_holdsFor_13 (Nat.le_of_ble_eq_true rfl) (zlk hX q2507) r33 m34 e35 ?_
    refine z_iload_n hX dX3_holdsFor_16 rfl (i := 3) rfl ?_
    obtain ⟨a36, n37, f38, r39, m40, i41, hw⟩ := hw
    refine z_iald hX dX3_holdsFor_17 r39 m40 i41 ?_
    revert hw
    generalize f38 (Int32.toNatClampNeg p2) = v42
    intro hw
    refine z_istore hX dX3_holdsFor_18 (i := 4) (Nat.le_of_ble_eq_true rfl) rfl (ls2 := [some (va_rf (some a0)), some (.int x1), some (.int p1), some (.int p2), some (.int v42)]) rfl ?_
    refine z_iload hX dX3_holdsFor_20 (i := 4) rfl ?_
    refine z_bipush hX (v := (-23 : Int32)) dX3_holdsFor_22 (by decide) ?_
    refine zJ_w (P := fun (j : Int32 → zS → Prop) => ∀ (p44 : Int32) (s45 : zS), j p44 s45 → zW X s45 118 [some (va_rf (some a0)), some (.int x1), some (.int p44), some (.int p2), none] []) hw (fun p44 s45 hw => ?_) (fun j46 hj46 hw => ?_)
    · obtain ⟨v47, e48⟩ : ∃ y : Int32, y = p2 + (1 : Int32) := ⟨_, rfl⟩
      refine z_iinc hX dX3_holdsFor_118 (i := 3) (v := v47) rfl (by rw [e48]; rfl) (Nat.le_of_ble_eq_true rfl) rfl (ls2 := [some (va_rf (some a0)), some (.int x1), some (.int p44), some (.int v47), none]) rfl ?_
      have hw := hw v47 e48
      refine z_goto hX dX3_holdsFor_121 (tgt := 4) rfl ?_
      exact hrec4 _ _ _ hw
    · refine z_icmp_ne hX dX3_holdsFor_24 (tgt := 48) rfl (fun c49 => ?_) (fun c49 => ?_)
      · have hw := hw.1 c49
        refine z_iload hX dX3_holdsFor_48 (i := 4) rfl ?_
        refine z_bipush hX (v := (-20 : Int32)) dX3_holdsFor_50 (by decide) ?_
        refine z_icmp_le hX dX3_holdsFor_52 (tgt := 88) rfl (fun c50 => ?_) (fun c50 => ?_)
        · have hw := hw.1 c50
          obtain ⟨v51, e52⟩ : ∃ y : Int32, y = p1 + (-1 : Int32) := ⟨_, rfl⟩
          refine z_iinc hX dX3_holdsFor_88 (i := 2) (v := v51) rfl (by rw [e52]; rfl) (Nat.le_of_ble_eq_true rfl) rfl (ls2 := [some (va_rf (some a0)), some (.int x1), some (.int v51), some (.int p2), some (.int v42)]) rfl ?_
          have hw := hw v51 e52
          refine z_aload_n hX dX3_holdsFor_91 rfl (i := 0) rfl ?_
          obtain ⟨a54, f55, v53, r56, m57, e58, hw⟩ := hw
          refine z_get hX zc4 (k := 39) dX3_holdsFor_92 (Nat.le_of_ble_eq_true rfl) (zlk hX q2508) r56 m57 e58 ?_
          refine z_iload_n hX dX3_holdsFor_95 rfl (i := 2) rfl ?_
          refine z_iconst hX (v := (1 : Int32)) dX3_holdsFor_96 (by decide) ?_
          refine z_isub hX dX3_holdsFor_97 ?_
          refine z_iload hX dX3_holdsFor_98 (i := 4) rfl ?_
          refine z_aload_n hX dX3_holdsFor_100 rfl (i := 0) rfl ?_
          obtain ⟨a60, f61, v59, r62, m63, e64, hw⟩ := hw
          refine z_get hX zc4 (k := 39) dX3_holdsFor_101 (Nat.le_of_ble_eq_true rfl) (zlk hX q2508) r62 m63 e64 ?_
          refine z_iload_n hX dX3_holdsFor_104 rfl (i := 2) rfl ?_
          refine z_iconst hX (v := (1 : Int32)) dX3_holdsFor_105 (by decide) ?_
          refine z_isub hX dX3_holdsFor_106 ?_
          obtain ⟨a65, n66, f67, r68, m69, i70, hw⟩ := hw
          refine z_lald hX dX3_holdsFor_107 r68 m69 i70 ?_
          revert hw
          generalize f67 (Int32.toNatClampNeg (v51 - (1 : Int32))) = v71
          intro hw
          refine z_aload_n hX dX3_holdsFor_108 rfl (i := 0) rfl ?_
          obtain ⟨a74, f75, v73, r76, m77, e78, hw⟩ := hw
          refine z_get hX zc4 (k := 39) dX3_holdsFor_109 (Nat.le_of_ble_eq_true rfl) (zlk hX q2508) r76 m77 e78 ?_
          refine z_iload_n hX dX3_holdsFor_112 rfl (i := 2) rfl ?_
          obtain ⟨a79, n80, f81, r82, m83, i84, hw⟩ := hw
          refine z_lald hX dX3_holdsFor_113 r82 m83 i84 ?_
          revert hw
          generalize f81 (Int32.toNatClampNeg v51) = v85
          intro hw
          refine z_invS hX hd dX3_holdsFor_114 (hC 294 _ zm294 _ _ _ _ hw) q3161 q3162 zh7 q3163 q136 zn294 rfl (Nat.le_of_ble_eq_true rfl) (st := [.int (v51 - (1 : Int32)), va_rf v53]) rfl (zcs8 (Nat.le_of_ble_eq_true rfl)) rfl (zkL (fun v87 s88 hw => ?_)) (zout hX hR hTb)
          obtain ⟨a90, n91, f92, r93, g94, m95, i96, hw⟩ := hw
          refine z_last hX dX3_holdsFor_117 r93 g94 m95 i96 (z_nm (fun s97 e98 => ?_))
          have hw := hw s97 e98
          refine z_sub (ls' := [some (va_rf (some a0)), some (.int x1), some (.int v51), some (.int p2), none]) (zsS (zsS (zsS (zsS (zsN (zs0)))))) ?_
          exact hj46 _ _ hw
        · have hw := hw.2 c50
          refine z_aload_n hX dX3_holdsFor_55 rfl (i := 0) rfl ?_
          obtain ⟨a100, f101, v99, r102, m103, e104, hw⟩ := hw
          refine z_get hX zc4 (k := 39) dX3_holdsFor_56 (Nat.le_of_ble_eq_true rfl) (zlk hX q2508) r102 m103 e104 ?_
          refine z_iload_n hX dX3_holdsFor_59 rfl (i := 2) rfl ?_
          refine z_iload hX dX3_holdsFor_60 (i := 4) rfl ?_
          refine zJ_w (P := fun (j : Int64 → zS → Prop) => ∀ (p105 : Int64) (s106 : zS), j p105 s106 → zW X s106 81 [some (va_rf (some a0)), some (.int x1), some (.int p1), some (.int p2), none] [.long p105, .int p1, va_rf v99]) hw (fun p105 s106 hw => ?_) (fun j107 hj107 hw => ?_)
          · obtain ⟨a108, n109, f110, r111, g112, m113, i114, hw⟩ := hw
            refine z_last hX dX3_holdsFor_81 r111 g112 m113 i114 (z_nm (fun s115 e116 => ?_))
            have hw := hw s115 e116
            obtain ⟨v117, e118⟩ : ∃ y : Int32, y = p1 + (1 : Int32) := ⟨_, rfl⟩
            refine z_iinc hX dX3_holdsFor_82 (i := 2) (v := v117) rfl (by rw [e118]; rfl) (Nat.le_of_ble_eq_true rfl) rfl (ls2 := [some (va_rf (some a0)), some (.int x1), some (.int v117), some (.int p2), none]) rfl ?_
            have hw := hw v117 e118
            refine z_goto hX dX3_holdsFor_85 (tgt := 118) rfl ?_
            exact hj46 _ _ hw
          · refine z_if_lt hX dX3_holdsFor_62 (tgt := 71) rfl (fun c119 => ?_) (fun c119 => ?_)
            · have hw := hw.1 c119
              refine z_aload_n hX dX3_holdsFor_71 rfl (i := 0) rfl ?_
              refine z_iload_n hX dX3_holdsFor_72 rfl (i := 1) rfl ?_
              refine z_iconst hX (v := (-1 : Int32)) dX3_holdsFor_73 (by decide) ?_
              refine z_iload hX dX3_holdsFor_74 (i := 4) rfl ?_
              refine z_isub hX dX3_holdsFor_76 ?_
              obtain ⟨a123, f124, r125, m126, hw⟩ := hw
              refine z_invV hX hd r125 (ci := 4) rfl rfl m126 dX3_holdsFor_77 (hC 293 _ zm293 _ _ _ _ hw) q3157 q3159 qs128 zh7 q3160 q136 zn293 rfl (Nat.le_of_ble_eq_true rfl) (st := [.int p1, va_rf v99]) rfl (zcs8 (Nat.le_of_ble_eq_true rfl)) rfl (zkI (fun v120 s121 hw => ?_)) (zout hX hR hTb)
              refine z_i2l hX dX3_holdsFor_80 ?_
              refine z_sub (ls' := [some (va_rf (some a0)), some (.int x1), some (.int p1), some (.int p2), none]) (zsS (zsS (zsS (zsS (zsN (zs0)))))) ?_
              exact hj107 _ _ hw
            · have hw := hw.2 c119
              refine z_iload hX dX3_holdsFor_65 (i := 4) rfl ?_
              refine z_i2l hX dX3_holdsFor_67 ?_
              refine z_goto hX dX3_holdsFor_68 (tgt := 81) rfl ?_
              refine z_sub (ls' := [some (va_rf (some a0)), some (.int x1), some (.int p1), some (.int p2), none]) (zsS (zsS (zsS (zsS (zsN (zs0)))))) ?_
              exact hj107 _ _ hw
      · have hw := hw.2 c49
        refine z_aload_n hX dX3_holdsFor_27 rfl (i := 0) rfl ?_
        obtain ⟨a128, f129, v127, r130, m131, e132, hw⟩ := hw
        refine z_get hX zc4 (k := 39) dX3_holdsFor_28 (Nat.le_of_ble_eq_true rfl) (zlk hX q2508) r130 m131 e132 ?_
        refine z_iload_n hX dX3_holdsFor_31 rfl (i := 2) rfl ?_
        refine z_iconst hX (v := (1 : Int32)) dX3_holdsFor_32 (by decide) ?_
        refine z_isub hX dX3_holdsFor_33 ?_
        refine z_lconst hX (v := (1 : Int64)) dX3_holdsFor_34 (by decide) ?_
        refine z_aload_n hX dX3_holdsFor_35 rfl (i := 0) rfl ?_
        obtain ⟨a134, f135, v133, r136, m137, e138, hw⟩ := hw
        refine z_get hX zc4 (k := 39) dX3_holdsFor_36 (Nat.le_of_ble_eq_true rfl) (zlk hX q2508) r136 m137 e138 ?_
        refine z_iload_n hX dX3_holdsFor_39 rfl (i := 2) rfl ?_
        refine z_iconst hX (v := (1 : Int32)) dX3_holdsFor_40 (by decide) ?_
        refine z_isub hX dX3_holdsFor_41 ?_
        obtain ⟨a139, n140, f141, r142, m143, i144, hw⟩ := hw
        refine z_lald hX dX3_holdsFor_42 r142 m143 i144 ?_
        revert hw
        generalize f141 (Int32.toNatClampNeg (p1 - (1 : Int32))) = v145
        intro hw
        refine z_lsub hX dX3_holdsFor_43 ?_
        obtain ⟨a147, n148, f149, r150, g151, m152, i153, hw⟩ := hw
        refine z_last hX dX3_holdsFor_44 r150 g151 m152 i153 (z_nm (fun s154 e155 => ?_))
        have hw := hw s154 e155
        refine z_goto hX dX3_holdsFor_45 (tgt := 118) rfl ?_
        refine z_sub (ls' := [some (va_rf (some a0)), some (.int x1), some (.int p1), some (.int p2), none]) (zsS (zsS (zsS (zsS (zsN (zs0)))))) ?_
        exact hj46 _ _ hw
abbrev cX3_property : ByteArray := prog_28_method_139_code
def yX3_property : MethodName := ⟨RX3, "property", "(II)I"⟩
def dkwX3_property_4 : List UInt8 := [46, 46, 172, 42, 27, 182, 0, 147, 172, 42, 180, 0, 34, 27, 46, 154, 0, 7, 3, 167, 0, 4, 4, 172]
abbrev dktX3_property_4 : List UInt8 := dkwX3_property_4 ++ []
def dkwX3_property_3 : List UInt8 := [27, 46, 172, 42, 180, 0, 28, 42, 180, 0, 34, 27, 46, 46, 172, 42, 180, 0, 31, 42, 180, 0, 34, 27]
abbrev dktX3_property_3 : List UInt8 := dkwX3_property_3 ++ dktX3_property_4
def dkwX3_property_2 : List UInt8 := [27, 172, 27, 184, 0, 202, 172, 42, 180, 0, 22, 27, 46, 172, 42, 27, 182, 1, 1, 172, 42, 180, 0, 25]
abbrev dktX3_property_2 : List UInt8 := dkwX3_property_2 ++ dktX3_property_3
def dkwX3_property_1 : List UInt8 := [170, 0, 0, 0, 0, 0, 104, 0, 0, 0, 0, 0, 0, 0, 7, 0, 0, 0, 47, 0, 0, 0, 49, 0, 0, 0, 54, 0, 0, 0, 61, 0, 0, 0, 67, 0, 0, 0, 74, 0, 0, 0, 86, 0, 0, 0, 98]
abbrev dktX3_property_1 : List UInt8 := dkwX3_property_1 ++ dktX3_property_2
def dkwX3_property_0 : List UInt8 := [28]
abbrev dktX3_property_0 : List UInt8 := dkwX3_property_0 ++ dktX3_property_1
theorem dksX3_property_0 : cX3_property.data.toList.drop 0 = dktX3_property_0 := by decide +kernel
theorem dksX3_property_1 : cX3_property.data.toList.drop 1 = dktX3_property_1 := dk_seg dksX3_property_0 1 rfl rfl
theorem dksX3_property_2 : cX3_property.data.toList.drop 48 = dktX3_property_2 := dk_seg dksX3_property_1 47 rfl rfl
theorem dksX3_property_3 : cX3_property.data.toList.drop 72 = dktX3_property_3 := dk_seg dksX3_property_2 24 rfl rfl
theorem dksX3_property_4 : cX3_property.data.toList.drop 96 = dktX3_property_4 := dk_seg dksX3_property_3 24 rfl rfl
theorem dX3_property_0 : decode cX3_property 0 = .ok (.iload_n 2, 1) := dk_28 (dk_at dksX3_property_0 0 rfl rfl)
theorem dX3_property_1 : decode cX3_property 1 = .ok (.tableswitch 104 0 7 #[47, 49, 54, 61, 67, 74, 86, 98], 47) := by decide +kernel
theorem dX3_property_48 : decode cX3_property 48 = .ok (.iload_n 1, 1) := dk_27 (dk_at dksX3_property_2 0 rfl rfl)
theorem dX3_property_49 : decode cX3_property 49 = .ok (.ireturn, 1) := dk_172 (dk_at dksX3_property_2 1 rfl rfl)
theorem dX3_property_50 : decode cX3_property 50 = .ok (.iload_n 1, 1) := dk_27 (dk_at dksX3_property_2 2 rfl rfl)
theorem dX3_property_51 : decode cX3_property 51 = .ok (.invokestatic 202, 3) := dk_184 0 202 (dk_at dksX3_property_2 3 rfl rfl)
theorem dX3_property_54 : decode cX3_property 54 = .ok (.ireturn, 1) := dk_172 (dk_at dksX3_property_2 6 rfl rfl)
theorem dX3_property_55 : decode cX3_property 55 = .ok (.aload_n 0, 1) := dk_42 (dk_at dksX3_property_2 7 rfl rfl)
theorem dX3_property_56 : decode cX3_property 56 = .ok (.getfield 22, 3) := dk_180 0 22 (dk_at dksX3_property_2 8 rfl rfl)
theorem dX3_property_59 : decode cX3_property 59 = .ok (.iload_n 1, 1) := dk_27 (dk_at dksX3_property_2 11 rfl rfl)
theorem dX3_property_60 : decode cX3_property 60 = .ok (.iaload, 1) := dk_46 (dk_at dksX3_property_2 12 rfl rfl)
theorem dX3_property_61 : decode cX3_property 61 = .ok (.ireturn, 1) := dk_172 (dk_at dksX3_property_2 13 rfl rfl)
theorem dX3_property_62 : decode cX3_property 62 = .ok (.aload_n 0, 1) := dk_42 (dk_at dksX3_property_2 14 rfl rfl)
theorem dX3_property_63 : decode cX3_property 63 = .ok (.iload_n 1, 1) := dk_27 (dk_at dksX3_property_2 15 rfl rfl)
theorem dX3_property_64 : decode cX3_property 64 = .ok (.invokevirtual 257, 3) := dk_182 1 1 (dk_at dksX3_property_2 16 rfl rfl)
theorem dX3_property_67 : decode cX3_property 67 = .ok (.ireturn, 1) := dk_172 (dk_at dksX3_property_2 19 rfl rfl)
theorem dX3_property_68 : decode cX3_property 68 = .ok (.aload_n 0, 1) := dk_42 (dk_at dksX3_property_2 20 rfl rfl)
theorem dX3_property_69 : decode cX3_property 69 = .ok (.getfield 25, 3) := dk_180 0 25 (dk_at dksX3_property_2 21 rfl rfl)
theorem dX3_property_72 : decode cX3_property 72 = .ok (.iload_n 1, 1) := dk_27 (dk_at dksX3_property_3 0 rfl rfl)
theorem dX3_property_73 : decode cX3_property 73 = .ok (.iaload, 1) := dk_46 (dk_at dksX3_property_3 1 rfl rfl)
theorem dX3_property_74 : decode cX3_property 74 = .ok (.ireturn, 1) := dk_172 (dk_at dksX3_property_3 2 rfl rfl)
theorem dX3_property_75 : decode cX3_property 75 = .ok (.aload_n 0, 1) := dk_42 (dk_at dksX3_property_3 3 rfl rfl)
theorem dX3_property_76 : decode cX3_property 76 = .ok (.getfield 28, 3) := dk_180 0 28 (dk_at dksX3_property_3 4 rfl rfl)
theorem dX3_property_79 : decode cX3_property 79 = .ok (.aload_n 0, 1) := dk_42 (dk_at dksX3_property_3 7 rfl rfl)
theorem dX3_property_80 : decode cX3_property 80 = .ok (.getfield 34, 3) := dk_180 0 34 (dk_at dksX3_property_3 8 rfl rfl)
theorem dX3_property_83 : decode cX3_property 83 = .ok (.iload_n 1, 1) := dk_27 (dk_at dksX3_property_3 11 rfl rfl)
theorem dX3_property_84 : decode cX3_property 84 = .ok (.iaload, 1) := dk_46 (dk_at dksX3_property_3 12 rfl rfl)
theorem dX3_property_85 : decode cX3_property 85 = .ok (.iaload, 1) := dk_46 (dk_at dksX3_property_3 13 rfl rfl)
theorem dX3_property_86 : decode cX3_property 86 = .ok (.ireturn, 1) := dk_172 (dk_at dksX3_property_3 14 rfl rfl)
theorem dX3_property_87 : decode cX3_property 87 = .ok (.aload_n 0, 1) := dk_42 (dk_at dksX3_property_3 15 rfl rfl)
theorem dX3_property_88 : decode cX3_property 88 = .ok (.getfield 31, 3) := dk_180 0 31 (dk_at dksX3_property_3 16 rfl rfl)
theorem dX3_property_91 : decode cX3_property 91 = .ok (.aload_n 0, 1) := dk_42 (dk_at dksX3_property_3 19 rfl rfl)
theorem dX3_property_92 : decode cX3_property 92 = .ok (.getfield 34, 3) := dk_180 0 34 (dk_at dksX3_property_3 20 rfl rfl)
theorem dX3_property_95 : decode cX3_property 95 = .ok (.iload_n 1, 1) := dk_27 (dk_at dksX3_property_3 23 rfl rfl)
theorem dX3_property_96 : decode cX3_property 96 = .ok (.iaload, 1) := dk_46 (dk_at dksX3_property_4 0 rfl rfl)
theorem dX3_property_97 : decode cX3_property 97 = .ok (.iaload, 1) := dk_46 (dk_at dksX3_property_4 1 rfl rfl)
theorem dX3_property_98 : decode cX3_property 98 = .ok (.ireturn, 1) := dk_172 (dk_at dksX3_property_4 2 rfl rfl)
theorem dX3_property_99 : decode cX3_property 99 = .ok (.aload_n 0, 1) := dk_42 (dk_at dksX3_property_4 3 rfl rfl)
theorem dX3_property_100 : decode cX3_property 100 = .ok (.iload_n 1, 1) := dk_27 (dk_at dksX3_property_4 4 rfl rfl)
theorem dX3_property_101 : decode cX3_property 101 = .ok (.invokevirtual 147, 3) := dk_182 0 147 (dk_at dksX3_property_4 5 rfl rfl)
theorem dX3_property_104 : decode cX3_property 104 = .ok (.ireturn, 1) := dk_172 (dk_at dksX3_property_4 8 rfl rfl)
theorem dX3_property_105 : decode cX3_property 105 = .ok (.aload_n 0, 1) := dk_42 (dk_at dksX3_property_4 9 rfl rfl)
theorem dX3_property_106 : decode cX3_property 106 = .ok (.getfield 34, 3) := dk_180 0 34 (dk_at dksX3_property_4 10 rfl rfl)
theorem dX3_property_109 : decode cX3_property 109 = .ok (.iload_n 1, 1) := dk_27 (dk_at dksX3_property_4 13 rfl rfl)
theorem dX3_property_110 : decode cX3_property 110 = .ok (.iaload, 1) := dk_46 (dk_at dksX3_property_4 14 rfl rfl)
theorem dX3_property_111 : decode cX3_property 111 = .ok (.ifCond .ne 7, 3) := dk_154 0 7 (dk_at dksX3_property_4 15 rfl rfl)
theorem dX3_property_114 : decode cX3_property 114 = .ok (.iconst 0, 1) := dk_3 (dk_at dksX3_property_4 18 rfl rfl)
theorem dX3_property_115 : decode cX3_property 115 = .ok (.goto 4, 3) := dk_167 0 4 (dk_at dksX3_property_4 19 rfl rfl)
theorem dX3_property_118 : decode cX3_property 118 = .ok (.iconst 1, 1) := dk_4 (dk_at dksX3_property_4 22 rfl rfl)
theorem dX3_property_119 : decode cX3_property 119 = .ok (.ireturn, 1) := dk_172 (dk_at dksX3_property_4 23 rfl rfl)
/-- PackingDuelModel.property(II)I -/
def zb293 (G : zPg) (C : zO) (args : List Value) (Q : zQ) (Y : zY) (σ : zS) : Prop := ∃ (a0 : Nat) (x1 : Int32) (x2 : Int32), args = [.ref a0, .int x1, .int x2] ∧ ((x2.toInt < (0) ∨ (7) < x2.toInt → zgR σ (some a0) 4 11 (fun v3 => zaI σ 0 v3 x1 (fun v15 => zJ (fun (p17 : Int32) (s18 : zS) => Q (some (.int p17)) s18) (fun (j19 : Int32 → zS → Prop) => ((¬ v15 = 0) → j19 (1 : Int32) σ) ∧ ((v15 = 0) → j19 (0 : Int32) σ))))) ∧ (x2 = (0) → Q (some (.int x1)) σ) ∧ (x2 = (1) → zcl C 433 [.int x1] Y σ (zqI (fun v21 s22 => Q (some (.int v21)) s22))) ∧ (x2 = (2) → zgR σ (some a0) 4 7 (fun v24 => zaI σ 0 v24 x1 (fun v36 => Q (some (.int v36)) σ))) ∧ (x2 = (3) → zrc σ (some a0) 4 (fun a41 => zcl C 184 [.ref a41, .int x1] Y σ (zqI (fun v38 s39 => Q (some (.int v38)) s39)))) ∧ (x2 = (4) → zgR σ (some a0) 4 8 (fun v45 => zaI σ 0 v45 x1 (fun v57 => Q (some (.int v57)) σ))) ∧ (x2 = (5) → zgR σ (some a0) 4 9 (fun v59 => zgR σ (some a0) 4 11 (fun v65 => zaI σ 0 v65 x1 (fun v77 => zaI σ 0 v59 v77 (fun v85 => Q (some (.int v85)) σ))))) ∧ (x2 = (6) → zgR σ (some a0) 4 10 (fun v87 => zgR σ (some a0) 4 11 (fun v93 => zaI σ 0 v93 x1 (fun v105 => zaI σ 0 v87 v105 (fun v113 => Q (some (.int v113)) σ))))) ∧ (x2 = (7) → zrc σ (some a0) 4 (fun a118 => zcl C 181 [.ref a118, .int x1] Y σ (zqI (fun v115 s116 => Q (some (.int v115)) s116)))))
set_option maxHeartbeats 4000000 in
theorem wk293 {l : Launch} {g : zG} {d : Nat} {C : zO} (hG : zGk g) (hC : zSound l g d C) {args : List Value} {Q : zQ} {Y : zY} {σ : zS} (hw : zb293 (zpg g) C args Q Y σ) : zMet l g (d + 1) (⟨"PackingDuelModel", "property", "(II)I"⟩, Cond.code ⟨"PackingDuelModel", "property", "(II)I"⟩ prog_28_method_139_code 3 (Option.some FieldType.int)) args σ Q Y := by
  obtain ⟨a0, x1, x2, rfl, hw⟩ := hw
  refine zof hG (by decide +kernel) [false, false, false] ⟨rfl, rfl, rfl, trivial⟩ (Nat.le_of_ble_eq_true rfl) (ls := [some (va_rf (some a0)), some (.int x1), some (.int x2)]) rfl ?_
  intro X hX hR hTb hd1 hd2 hl hg hnm
  subst hl
  subst hg
  have hd : zDep X d := ⟨hd1, hd2⟩
  refine z_iload_n hX dX3_property_0 rfl (i := 2) rfl ?_
  rcases zsw x2 0 8 (by decide) (by decide) with c1 | ⟨j2, hj2, c1⟩
  · have c1 : x2.toInt < (0) ∨ (7) < x2.toInt := by omega
    refine z_tableOut hX dX3_property_1 c1 (tgt := 105) rfl ?_
    have hw := hw.1 c1
    refine z_aload_n hX dX3_property_105 rfl (i := 0) rfl ?_
    obtain ⟨a4, f5, v3, r6, m7, e8, hw⟩ := hw
    refine z_get hX zc4 (k := 11) dX3_property_106 (Nat.le_of_ble_eq_true rfl) (zlk hX q2480) r6 m7 e8 ?_
    refine z_iload_n hX dX3_property_109 rfl (i := 1) rfl ?_
    obtain ⟨a9, n10, f11, r12, m13, i14, hw⟩ := hw
    refine z_iald hX dX3_property_110 r12 m13 i14 ?_
    revert hw
    generalize f11 (Int32.toNatClampNeg x1) = v15
    intro hw
    refine zJ_w (P := fun (j : Int32 → zS → Prop) => ∀ (p17 : Int32) (s18 : zS), j p17 s18 → zW X s18 119 [none, none, none] [.int p17]) hw (fun p17 s18 hw => ?_) (fun j19 hj19 hw => ?_)
    · exact z_ireturn hX hR dX3_property_119 rfl hw
    · refine z_if_ne hX dX3_property_111 (tgt := 118) rfl (fun c20 => ?_) (fun c20 => ?_)
      · have hw := hw.1 c20
        refine z_iconst hX (v := (1 : Int32)) dX3_property_118 (by decide) ?_
        refine z_sub (ls' := [none, none, none]) (zsN (zsN (zsN (zs0)))) ?_
        exact hj19 _ _ hw
      · have hw := hw.2 c20
        refine z_iconst hX (v := (0 : Int32)) dX3_property_114 (by decide) ?_
        refine z_goto hX dX3_property_115 (tgt := 119) rfl ?_
        refine z_sub (ls' := [none, none, none]) (zsN (zsN (zsN (zs0)))) ?_
        exact hj19 _ _ hw
  · match j2, hj2, c1 with
    | 0, _, c1 =>
      have c1 : x2 = (0) := c1
      refine z_tableIn hX dX3_property_1 (by rw [c1]; decide) (by rw [c1]; decide) (off := 47) (by rw [c1]; rfl) (tgt := 48) rfl ?_
      have hw := hw.2.1 c1
      refine z_iload_n hX dX3_property_48 rfl (i := 1) rfl ?_
      exact z_ireturn hX hR dX3_property_49 rfl hw
    | 1, _, c1 =>
      have c1 : x2 = (1) := c1
      refine z_tableIn hX dX3_property_1 (by rw [c1]; decide) (by rw [c1]; decide) (off := 49) (by rw [c1]; rfl) (tgt := 50) rfl ?_
      have hw := hw.2.2.1 c1
      refine z_iload_n hX dX3_property_50 rfl (i := 1) rfl ?_
      refine z_invS hX hd dX3_property_51 (hC 433 _ zm433 _ _ _ _ hw) q2765 q531 zh24 q532 q154 zn433 rfl (Nat.le_of_ble_eq_true rfl) (st := []) rfl (zcs8 (Nat.le_of_ble_eq_true rfl)) rfl (zkI (fun v21 s22 hw => ?_)) (zout hX hR hTb)
      exact z_ireturn hX hR dX3_property_54 rfl hw
    | 2, _, c1 =>
      have c1 : x2 = (2) := c1
      refine z_tableIn hX dX3_property_1 (by rw [c1]; decide) (by rw [c1]; decide) (off := 54) (by rw [c1]; rfl) (tgt := 55) rfl ?_
      have hw := hw.2.2.2.1 c1
      refine z_aload_n hX dX3_property_55 rfl (i := 0) rfl ?_
      obtain ⟨a25, f26, v24, r27, m28, e29, hw⟩ := hw
      refine z_get hX zc4 (k := 7) dX3_property_56 (Nat.le_of_ble_eq_true rfl) (zlk hX q2476) r27 m28 e29 ?_
      refine z_iload_n hX dX3_property_59 rfl (i := 1) rfl ?_
      obtain ⟨a30, n31, f32, r33, m34, i35, hw⟩ := hw
      refine z_iald hX dX3_property_60 r33 m34 i35 ?_
      revert hw
      generalize f32 (Int32.toNatClampNeg x1) = v36
      intro hw
      exact z_ireturn hX hR dX3_property_61 rfl hw
    | 3, _, c1 =>
      have c1 : x2 = (3) := c1
      refine z_tableIn hX dX3_property_1 (by rw [c1]; decide) (by rw [c1]; decide) (off := 61) (by rw [c1]; rfl) (tgt := 62) rfl ?_
      have hw := hw.2.2.2.2.1 c1
      refine z_aload_n hX dX3_property_62 rfl (i := 0) rfl ?_
      refine z_iload_n hX dX3_property_63 rfl (i := 1) rfl ?_
      obtain ⟨a41, f42, r43, m44, hw⟩ := hw
      refine z_invV hX hd r43 (ci := 4) rfl rfl m44 dX3_property_64 (hC 184 _ zm184 _ _ _ _ hw) q2703 q2705 qs62 zh7 q2706 q136 zn184 rfl (Nat.le_of_ble_eq_true rfl) (st := []) rfl (zcs8 (Nat.le_of_ble_eq_true rfl)) rfl (zkI (fun v38 s39 hw => ?_)) (zout hX hR hTb)
      exact z_ireturn hX hR dX3_property_67 rfl hw
    | 4, _, c1 =>
      have c1 : x2 = (4) := c1
      refine z_tableIn hX dX3_property_1 (by rw [c1]; decide) (by rw [c1]; decide) (off := 67) (by rw [c1]; rfl) (tgt := 68) rfl ?_
      have hw := hw.2.2.2.2.2.1 c1
      refine z_aload_n hX dX3_property_68 rfl (i := 0) rfl ?_
      obtain ⟨a46, f47, v45, r48, m49, e50, hw⟩ := hw
      refine z_get hX zc4 (k := 8) dX3_property_69 (Nat.le_of_ble_eq_true rfl) (zlk hX q2477) r48 m49 e50 ?_
      refine z_iload_n hX dX3_property_72 rfl (i := 1) rfl ?_
      obtain ⟨a51, n52, f53, r54, m55, i56, hw⟩ := hw
      refine z_iald hX dX3_property_73 r54 m55 i56 ?_
      revert hw
      generalize f53 (Int32.toNatClampNeg x1) = v57
      intro hw
      exact z_ireturn hX hR dX3_property_74 rfl hw
    | 5, _, c1 =>
      have c1 : x2 = (5) := c1
      refine z_tableIn hX dX3_property_1 (by rw [c1]; decide) (by rw [c1]; decide) (off := 74) (by rw [c1]; rfl) (tgt := 75) rfl ?_
      have hw := hw.2.2.2.2.2.2.1 c1
      refine z_aload_n hX dX3_property_75 rfl (i := 0) rfl ?_
      obtain ⟨a60, f61, v59, r62, m63, e64, hw⟩ := hw
      refine z_get hX zc4 (k := 9) dX3_property_76 (Nat.le_of_ble_eq_true rfl) (zlk hX q2478) r62 m63 e64 ?_
      refine z_aload_n hX dX3_property_79 rfl (i := 0) rfl ?_
      obtain ⟨a66, f67, v65, r68, m69, e70, hw⟩ := hw
      refine z_get hX zc4 (k := 11) dX3_property_80 (Nat.le_of_ble_eq_true rfl) (zlk hX q2480) r68 m69 e70 ?_
      refine z_iload_n hX dX3_property_83 rfl (i := 1) rfl ?_
      obtain ⟨a71, n72, f73, r74, m75, i76, hw⟩ := hw
      refine z_iald hX dX3_property_84 r74 m75 i76 ?_
      revert hw
      generalize f73 (Int32.toNatClampNeg x1) = v77
      intro hw
      obtain ⟨a79, n80, f81, r82, m83, i84, hw⟩ := hw
      refine z_iald hX dX3_property_85 r82 m83 i84 ?_
      revert hw
      generalize f81 (Int32.toNatClampNeg v77) = v85
      intro hw
      exact z_ireturn hX hR dX3_property_86 rfl hw
    | 6, _, c1 =>
      have c1 : x2 = (6) := c1
      refine z_tableIn hX dX3_property_1 (by rw [c1]; decide) (by rw [c1]; decide) (off := 86) (by rw [c1]; rfl) (tgt := 87) rfl ?_
      have hw := hw.2.2.2.2.2.2.2.1 c1
      refine z_aload_n hX dX3_property_87 rfl (i := 0) rfl ?_
      obtain ⟨a88, f89, v87, r90, m91, e92, hw⟩ := hw
      refine z_get hX zc4 (k := 10) dX3_property_88 (Nat.le_of_ble_eq_true rfl) (zlk hX q2479) r90 m91 e92 ?_
      refine z_aload_n hX dX3_property_91 rfl (i := 0) rfl ?_
      obtain ⟨a94, f95, v93, r96, m97, e98, hw⟩ := hw
      refine z_get hX zc4 (k := 11) dX3_property_92 (Nat.le_of_ble_eq_true rfl) (zlk hX q2480) r96 m97 e98 ?_
      refine z_iload_n hX dX3_property_95 rfl (i := 1) rfl ?_
      obtain ⟨a99, n100, f101, r102, m103, i104, hw⟩ := hw
      refine z_iald hX dX3_property_96 r102 m103 i104 ?_
      revert hw
      generalize f101 (Int32.toNatClampNeg x1) = v105
      intro hw
      obtain ⟨a107, n108, f109, r110, m111, i112, hw⟩ := hw
      refine z_iald hX dX3_property_97 r110 m111 i112 ?_
      revert hw
      generalize f109 (Int32.toNatClampNeg v105) = v113
      intro hw
      exact z_ireturn hX hR dX3_property_98 rfl hw
    | 7, _, c1 =>
      have c1 : x2 = (7) := c1
      refine z_tableIn hX dX3_property_1 (by rw [c1]; decide) (by rw [c1]; decide) (off := 98) (by rw [c1]; rfl) (tgt := 99) rfl ?_
      have hw := hw.2.2.2.2.2.2.2.2 c1
      refine z_aload_n hX dX3_property_99 rfl (i := 0) rfl ?_
      refine z_iload_n hX dX3_property_100 rfl (i := 1) rfl ?_
      obtain ⟨a118, f119, r120, m121, hw⟩ := hw
      refine z_invV hX hd r120 (ci := 4) rfl rfl m121 dX3_property_101 (hC 181 _ zm181 _ _ _ _ hw) q2691 q2693 qs61 zh7 q2694 q136 zn181 rfl (Nat.le_of_ble_eq_true rfl) (st := []) rfl (zcs8 (Nat.le_of_ble_eq_true rfl)) rfl (zkI (fun v115 s116 hw => ?_)) (zout hX hR hTb)
      exact z_ireturn hX hR dX3_property_104 rfl hw
    | j2 + 8, h, _ => exact absurd h (by omega)
abbrev cX3_operate : ByteArray := prog_28_method_138_code
def yX3_operate : MethodName := ⟨RX3, "operate", "(IJJ)J"⟩
def dkwX3_operate_3 : List UInt8 := [31, 33, 148, 158, 0, 7, 10, 167, 0, 4, 9, 173, 31, 33, 127, 173, 31, 33, 129, 173]
abbrev dktX3_operate_3 : List UInt8 := dkwX3_operate_3 ++ []
def dkwX3_operate_2 : List UInt8 := [31, 33, 148, 156, 0, 7, 10, 167, 0, 4, 9, 173, 31, 33, 148, 154, 0, 7, 10, 167, 0, 4, 9, 173]
abbrev dktX3_operate_2 : List UInt8 := dkwX3_operate_2 ++ dktX3_operate_3
def dkwX3_operate_1 : List UInt8 := [170, 0, 0, 0, 0, 0, 75, 255, 255, 255, 232, 255, 255, 255, 236, 0, 0, 0, 71, 0, 0, 0, 75, 0, 0, 0, 59, 0, 0, 0, 47, 0, 0, 0, 35]
abbrev dktX3_operate_1 : List UInt8 := dkwX3_operate_1 ++ dktX3_operate_2
def dkwX3_operate_0 : List UInt8 := [26]
abbrev dktX3_operate_0 : List UInt8 := dkwX3_operate_0 ++ dktX3_operate_1
theorem dksX3_operate_0 : cX3_operate.data.toList.drop 0 = dktX3_operate_0 := by decide +kernel
theorem dksX3_operate_1 : cX3_operate.data.toList.drop 1 = dktX3_operate_1 := dk_seg dksX3_operate_0 1 rfl rfl
theorem dksX3_operate_2 : cX3_operate.data.toList.drop 36 = dktX3_operate_2 := dk_seg dksX3_operate_1 35 rfl rfl
theorem dksX3_operate_3 : cX3_operate.data.toList.drop 60 = dktX3_operate_3 := dk_seg dksX3_operate_2 24 rfl rfl
theorem dX3_operate_0 : decode cX3_operate 0 = .ok (.iload_n 0, 1) := dk_26 (dk_at dksX3_operate_0 0 rfl rfl)
theorem dX3_operate_1 : decode cX3_operate 1 = .ok (.tableswitch 75 (-24) (-20) #[71, 75, 59, 47, 35], 35) := by decide +kernel
theorem dX3_operate_36 : decode cX3_operate 36 = .ok (.lload_n 1, 1) := dk_31 (dk_at dksX3_operate_2 0 rfl rfl)
theorem dX3_operate_37 : decode cX3_operate 37 = .ok (.lload_n 3, 1) := dk_33 (dk_at dksX3_operate_2 1 rfl rfl)
theorem dX3_operate_38 : decode cX3_operate 38 = .ok (.lcmp, 1) := dk_148 (dk_at dksX3_operate_2 2 rfl rfl)
theorem dX3_operate_39 : decode cX3_operate 39 = .ok (.ifCond .ge 7, 3) := dk_156 0 7 (dk_at dksX3_operate_2 3 rfl rfl)
theorem dX3_operate_42 : decode cX3_operate 42 = .ok (.lconst 1, 1) := dk_10 (dk_at dksX3_operate_2 6 rfl rfl)
theorem dX3_operate_43 : decode cX3_operate 43 = .ok (.goto 4, 3) := dk_167 0 4 (dk_at dksX3_operate_2 7 rfl rfl)
theorem dX3_operate_46 : decode cX3_operate 46 = .ok (.lconst 0, 1) := dk_9 (dk_at dksX3_operate_2 10 rfl rfl)
theorem dX3_operate_47 : decode cX3_operate 47 = .ok (.lreturn, 1) := dk_173 (dk_at dksX3_operate_2 11 rfl rfl)
theorem dX3_operate_48 : decode cX3_operate 48 = .ok (.lload_n 1, 1) := dk_31 (dk_at dksX3_operate_2 12 rfl rfl)
theorem dX3_operate_49 : decode cX3_operate 49 = .ok (.lload_n 3, 1) := dk_33 (dk_at dksX3_operate_2 13 rfl rfl)
theorem dX3_operate_50 : decode cX3_operate 50 = .ok (.lcmp, 1) := dk_148 (dk_at dksX3_operate_2 14 rfl rfl)
theorem dX3_operate_51 : decode cX3_operate 51 = .ok (.ifCond .ne 7, 3) := dk_154 0 7 (dk_at dksX3_operate_2 15 rfl rfl)
theorem dX3_operate_54 : decode cX3_operate 54 = .ok (.lconst 1, 1) := dk_10 (dk_at dksX3_operate_2 18 rfl rfl)
theorem dX3_operate_55 : decode cX3_operate 55 = .ok (.goto 4, 3) := dk_167 0 4 (dk_at dksX3_operate_2 19 rfl rfl)
theorem dX3_operate_58 : decode cX3_operate 58 = .ok (.lconst 0, 1) := dk_9 (dk_at dksX3_operate_2 22 rfl rfl)
theorem dX3_operate_59 : decode cX3_operate 59 = .ok (.lreturn, 1) := dk_173 (dk_at dksX3_operate_2 23 rfl rfl)
theorem dX3_operate_60 : decode cX3_operate 60 = .ok (.lload_n 1, 1) := dk_31 (dk_at dksX3_operate_3 0 rfl rfl)
theorem dX3_operate_61 : decode cX3_operate 61 = .ok (.lload_n 3, 1) := dk_33 (dk_at dksX3_operate_3 1 rfl rfl)
theorem dX3_operate_62 : decode cX3_operate 62 = .ok (.lcmp, 1) := dk_148 (dk_at dksX3_operate_3 2 rfl rfl)
theorem dX3_operate_63 : decode cX3_operate 63 = .ok (.ifCond .le 7, 3) := dk_158 0 7 (dk_at dksX3_operate_3 3 rfl rfl)
theorem dX3_operate_66 : decode cX3_operate 66 = .ok (.lconst 1, 1) := dk_10 (dk_at dksX3_operate_3 6 rfl rfl)
theorem dX3_operate_67 : decode cX3_operate 67 = .ok (.goto 4, 3) := dk_167 0 4 (dk_at dksX3_operate_3 7 rfl rfl)
theorem dX3_operate_70 : decode cX3_operate 70 = .ok (.lconst 0, 1) := dk_9 (dk_at dksX3_operate_3 10 rfl rfl)
theorem dX3_operate_71 : decode cX3_operate 71 = .ok (.lreturn, 1) := dk_173 (dk_at dksX3_operate_3 11 rfl rfl)
theorem dX3_operate_72 : decode cX3_operate 72 = .ok (.lload_n 1, 1) := dk_31 (dk_at dksX3_operate_3 12 rfl rfl)
theorem dX3_operate_73 : decode cX3_operate 73 = .ok (.lload_n 3, 1) := dk_33 (dk_at dksX3_operate_3 13 rfl rfl)
theorem dX3_operate_74 : decode cX3_operate 74 = .ok (.land, 1) := dk_127 (dk_at dksX3_operate_3 14 rfl rfl)
theorem dX3_operate_75 : decode cX3_operate 75 = .ok (.lreturn, 1) := dk_173 (dk_at dksX3_operate_3 15 rfl rfl)
theorem dX3_operate_76 : decode cX3_operate 76 = .ok (.lload_n 1, 1) := dk_31 (dk_at dksX3_operate_3 16 rfl rfl)
theorem dX3_operate_77 : decode cX3_operate 77 = .ok (.lload_n 3, 1) := dk_33 (dk_at dksX3_operate_3 17 rfl rfl)
theorem dX3_operate_78 : decode cX3_operate 78 = .ok (.lor, 1) := dk_129 (dk_at dksX3_operate_3 18 rfl rfl)
theorem dX3_operate_79 : decode cX3_operate 79 = .ok (.lreturn, 1) := dk_173 (dk_at dksX3_operate_3 19 rfl rfl)
/-- PackingDuelModel.operate(IJJ)J -/
def zb294 (G : zPg) (C : zO) (args : List Value) (Q : zQ) (Y : zY) (σ : zS) : Prop := ∃ (x1 : Int32) (x2 : Int64) (x3 : Int64), args = [.int x1, .long x2, .long x3] ∧ (zJ (fun  (s1 : zS) => Q (some (.long (x2 ||| x3))) s1) (fun (j2 : zS → Prop) => (x1.toInt < (-24) ∨ (-20) < x1.toInt → j2 σ) ∧ (x1 = (-24) → Q (some (.long (x2 &&& x3))) σ) ∧ (x1 = (-23) → j2 σ) ∧ (x1 = (-22) → zJ (fun (p5 : Int64) (s6 : zS) => Q (some (.long p5)) s6) (fun (j7 : Int64 → zS → Prop) => (((lg_cmp x2 x3) ≤ 0) → j7 (0 : Int64) σ) ∧ ((¬ (lg_cmp x2 x3) ≤ 0) → j7 (1 : Int64) σ))) ∧ (x1 = (-21) → zJ (fun (p9 : Int64) (s10 : zS) => Q (some (.long p9)) s10) (fun (j11 : Int64 → zS → Prop) => ((¬ (lg_cmp x2 x3) = 0) → j11 (0 : Int64) σ) ∧ (((lg_cmp x2 x3) = 0) → j11 (1 : Int64) σ))) ∧ (x1 = (-20) → zJ (fun (p13 : Int64) (s14 : zS) => Q (some (.long p13)) s14) (fun (j15 : Int64 → zS → Prop) => ((0 ≤ (lg_cmp x2 x3)) → j15 (0 : Int64) σ) ∧ ((¬ 0 ≤ (lg_cmp x2 x3)) → j15 (1 : Int64) σ)))))
set_option maxHeartbeats 4000000 in
theorem wk294 {l : Launch} {g : zG} {d : Nat} {C : zO} (hG : zGk g) (hC : zSound l g d C) {args : List Value} {Q : zQ} {Y : zY} {σ : zS} (hw : zb294 (zpg g) C args Q Y σ) : zMet l g (d + 1) (⟨"PackingDuelModel", "operate", "(IJJ)J"⟩, Cond.code ⟨"PackingDuelModel", "operate", "(IJJ)J"⟩ prog_28_method_138_code 5 (Option.some FieldType.long)) args σ Q Y := by
  obtain ⟨x1, x2, x3, rfl, hw⟩ := hw
  refine zof hG (by decide +kernel) [false, true, true] ⟨rfl, rfl, rfl, trivial⟩ (Nat.le_of_ble_eq_true rfl) (ls := [some (.int x1), some (.long x2), none, some (.long x3), none]) rfl ?_
  intro X hX hR hTb hd1 hd2 hl hg hnm
  subst hl
  subst hg
  have hd : zDep X d := ⟨hd1, hd2⟩
  refine z_iload_n hX dX3_operate_0 rfl (i := 0) rfl ?_
  refine zJ_w (P := fun (j : zS → Prop) => ∀  (s1 : zS), j  s1 → zW X s1 76 [none, some (.long x2), none, some (.long x3), none] []) hw (fun  s1 hw => ?_) (fun j2 hj2 hw => ?_)
  · refine z_lload_n hX dX3_operate_76 rfl (i := 1) rfl ?_
    refine z_lload_n hX dX3_operate_77 rfl (i := 3) rfl ?_
    refine z_lor hX dX3_operate_78 ?_
    exact z_lreturn hX hR dX3_operate_79 hw
  · rcases zsw x1 (-24) 5 (by decide) (by decide) with c3 | ⟨j4, hj4, c3⟩
    · have c3 : x1.toInt < (-24) ∨ (-20) < x1.toInt := by omega
      refine z_tableOut hX dX3_operate_1 c3 (tgt := 76) rfl ?_
      have hw := hw.1 c3
      refine z_sub (ls' := [none, some (.long x2), none, some (.long x3), none]) (zsN (zsS (zsN (zsS (zsN (zs0)))))) ?_
      exact hj2  _ hw
    · match j4, hj4, c3 with
      | 0, _, c3 =>
        have c3 : x1 = (-24) := c3
        refine z_tableIn hX dX3_operate_1 (by rw [c3]; decide) (by rw [c3]; decide) (off := 71) (by rw [c3]; rfl) (tgt := 72) rfl ?_
        have hw := hw.2.1 c3
        refine z_lload_n hX dX3_operate_72 rfl (i := 1) rfl ?_
        refine z_lload_n hX dX3_operate_73 rfl (i := 3) rfl ?_
        refine z_land hX dX3_operate_74 ?_
        exact z_lreturn hX hR dX3_operate_75 hw
      | 1, _, c3 =>
        have c3 : x1 = (-23) := c3
        refine z_tableIn hX dX3_operate_1 (by rw [c3]; decide) (by rw [c3]; decide) (off := 75) (by rw [c3]; rfl) (tgt := 76) rfl ?_
        have hw := hw.2.2.1 c3
        refine z_sub (ls' := [none, some (.long x2), none, some (.long x3), none]) (zsN (zsS (zsN (zsS (zsN (zs0)))))) ?_
        exact hj2  _ hw
      | 2, _, c3 =>
        have c3 : x1 = (-22) := c3
        refine z_tableIn hX dX3_operate_1 (by rw [c3]; decide) (by rw [c3]; decide) (off := 59) (by rw [c3]; rfl) (tgt := 60) rfl ?_
        have hw := hw.2.2.2.1 c3
        refine z_lload_n hX dX3_operate_60 rfl (i := 1) rfl ?_
        refine z_lload_n hX dX3_operate_61 rfl (i := 3) rfl ?_
        refine z_lcmp hX dX3_operate_62 ?_
        refine zJ_w (P := fun (j : Int64 → zS → Prop) => ∀ (p5 : Int64) (s6 : zS), j p5 s6 → zW X s6 71 [none, none, none, none, none] [.long p5]) hw (fun p5 s6 hw => ?_) (fun j7 hj7 hw => ?_)
        · exact z_lreturn hX hR dX3_operate_71 hw
        · refine z_if_le hX dX3_operate_63 (tgt := 70) rfl (fun c8 => ?_) (fun c8 => ?_)
          · have hw := hw.1 c8
            refine z_lconst hX (v := (0 : Int64)) dX3_operate_70 (by decide) ?_
            refine z_sub (ls' := [none, none, none, none, none]) (zsN (zsN (zsN (zsN (zsN (zs0)))))) ?_
            exact hj7 _ _ hw
          · have hw := hw.2 c8
            refine z_lconst hX (v := (1 : Int64)) dX3_operate_66 (by decide) ?_
            refine z_goto hX dX3_operate_67 (tgt := 71) rfl ?_
            refine z_sub (ls' := [none, none, none, none, none]) (zsN (zsN (zsN (zsN (zsN (zs0)))))) ?_
            exact hj7 _ _ hw
      | 3, _, c3 =>
        have c3 : x1 = (-21) := c3
        refine z_tableIn hX dX3_operate_1 (by rw [c3]; decide) (by rw [c3]; decide) (off := 47) (by rw [c3]; rfl) (tgt := 48) rfl ?_
        have hw := hw.2.2.2.2.1 c3
        refine z_lload_n hX dX3_operate_48 rfl (i := 1) rfl ?_
        refine z_lload_n hX dX3_operate_49 rfl (i := 3) rfl ?_
        refine z_lcmp hX dX3_operate_50 ?_
        refine zJ_w (P := fun (j : Int64 → zS → Prop) => ∀ (p9 : Int64) (s10 : zS), j p9 s10 → zW X s10 59 [none, none, none, none, none] [.long p9]) hw (fun p9 s10 hw => ?_) (fun j11 hj11 hw => ?_)
        · exact z_lreturn hX hR dX3_operate_59 hw
        · refine z_if_ne hX dX3_operate_51 (tgt := 58) rfl (fun c12 => ?_) (fun c12 => ?_)
          · have hw := hw.1 c12
            refine z_lconst hX (v := (0 : Int64)) dX3_operate_58 (by decide) ?_
            refine z_sub (ls' := [none, none, none, none, none]) (zsN (zsN (zsN (zsN (zsN (zs0)))))) ?_
            exact hj11 _ _ hw
          · have hw := hw.2 c12
            refine z_lconst hX (v := (1 : Int64)) dX3_operate_54 (by decide) ?_
            refine z_goto hX dX3_operate_55 (tgt := 59) rfl ?_
            refine z_sub (ls' := [none, none, none, none, none]) (zsN (zsN (zsN (zsN (zsN (zs0)))))) ?_
            exact hj11 _ _ hw
      | 4, _, c3 =>
        have c3 : x1 = (-20) := c3
        refine z_tableIn hX dX3_operate_1 (by rw [c3]; decide) (by rw [c3]; decide) (off := 35) (by rw [c3]; rfl) (tgt := 36) rfl ?_
        have hw := hw.2.2.2.2.2 c3
        refine z_lload_n hX dX3_operate_36 rfl (i := 1) rfl ?_
        refine z_lload_n hX dX3_operate_37 rfl (i := 3) rfl ?_
        refine z_lcmp hX dX3_operate_38 ?_
        refine zJ_w (P := fun (j : Int64 → zS → Prop) => ∀ (p13 : Int64) (s14 : zS), j p13 s14 → zW X s14 47 [none, none, none, none, none] [.long p13]) hw (fun p13 s14 hw => ?_) (fun j15 hj15 hw => ?_)
        · exact z_lreturn hX hR dX3_operate_47 hw
        · refine z_if_ge hX dX3_operate_39 (tgt := 46) rfl (fun c16 => ?_) (fun c16 => ?_)
          · have hw := hw.1 c16
            refine z_lconst hX (v := (0 : Int64)) dX3_operate_46 (by decide) ?_
            refine z_sub (ls' := [none, none, none, none, none]) (zsN (zsN (zsN (zsN (zsN (zs0)))))) ?_
            exact hj15 _ _ hw
          · have hw := hw.2 c16
            refine z_lconst hX (v := (1 : Int64)) dX3_operate_42 (by decide) ?_
            refine z_goto hX dX3_operate_43 (tgt := 47) rfl ?_
            refine z_sub (ls' := [none, none, none, none, none]) (zsN (zsN (zsN (zsN (zsN (zs0)))))) ?_
            exact hj15 _ _ hw
      | j4 + 5, h, _ => exact absurd h (by omega)
