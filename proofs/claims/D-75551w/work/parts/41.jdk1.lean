set_option maxRecDepth 100000
abbrev cJ9_appendNull : ByteArray := prog_30_method_26_code
def yJ9_appendNull : MethodName := ⟨RJ9, "appendNull", "()Ljava/lang/AbstractStringBuilder;"⟩
def dkwJ9_appendNull_3 : List UInt8 := [184, 0, 226, 60, 42, 27, 181, 0, 79, 42, 176]
abbrev dktJ9_appendNull_3 : List UInt8 := dkwJ9_appendNull_3 ++ []
def dkwJ9_appendNull_2 : List UInt8 := [16, 108, 84, 44, 27, 132, 1, 1, 16, 108, 84, 167, 0, 17, 44, 27, 16, 110, 16, 117, 16, 108, 16, 108]
abbrev dktJ9_appendNull_2 : List UInt8 := dkwJ9_appendNull_2 ++ dktJ9_appendNull_3
def dkwJ9_appendNull_1 : List UInt8 := [153, 0, 38, 44, 27, 132, 1, 1, 16, 110, 84, 44, 27, 132, 1, 1, 16, 117, 84, 44, 27, 132, 1, 1]
abbrev dktJ9_appendNull_1 : List UInt8 := dkwJ9_appendNull_1 ++ dktJ9_appendNull_2
def dkwJ9_appendNull_0 : List UInt8 := [42, 42, 180, 0, 79, 7, 96, 182, 0, 100, 42, 180, 0, 79, 60, 42, 180, 0, 15, 77, 42, 182, 0, 83]
abbrev dktJ9_appendNull_0 : List UInt8 := dkwJ9_appendNull_0 ++ dktJ9_appendNull_1
theorem dksJ9_appendNull_0 : cJ9_appendNull.data.toList.drop 0 = dktJ9_appendNull_0 := by decide +kernel
theorem dksJ9_appendNull_1 : cJ9_appendNull.data.toList.drop 24 = dktJ9_appendNull_1 := dk_seg dksJ9_appendNull_0 24 rfl rfl
theorem dksJ9_appendNull_2 : cJ9_appendNull.data.toList.drop 48 = dktJ9_appendNull_2 := dk_seg dksJ9_appendNull_1 24 rfl rfl
theorem dksJ9_appendNull_3 : cJ9_appendNull.data.toList.drop 72 = dktJ9_appendNull_3 := dk_seg dksJ9_appendNull_2 24 rfl rfl
theorem dJ9_appendNull_0 : decode cJ9_appendNull 0 = .ok (.aload_n 0, 1) := dk_42 (dk_at dksJ9_appendNull_0 0 rfl rfl)
theorem dJ9_appendNull_1 : decode cJ9_appendNull 1 = .ok (.aload_n 0, 1) := dk_42 (dk_at dksJ9_appendNull_0 1 rfl rfl)
theorem dJ9_appendNull_2 : decode cJ9_appendNull 2 = .ok (.getfield 79, 3) := dk_180 0 79 (dk_at dksJ9_appendNull_0 2 rfl rfl)
theorem dJ9_appendNull_5 : decode cJ9_appendNull 5 = .ok (.iconst 4, 1) := dk_7 (dk_at dksJ9_appendNull_0 5 rfl rfl)
theorem dJ9_appendNull_6 : decode cJ9_appendNull 6 = .ok (.iadd, 1) := dk_96 (dk_at dksJ9_appendNull_0 6 rfl rfl)
theorem dJ9_appendNull_7 : decode cJ9_appendNull 7 = .ok (.invokevirtual 100, 3) := dk_182 0 100 (dk_at dksJ9_appendNull_0 7 rfl rfl)
theorem dJ9_appendNull_10 : decode cJ9_appendNull 10 = .ok (.aload_n 0, 1) := dk_42 (dk_at dksJ9_appendNull_0 10 rfl rfl)
theorem dJ9_appendNull_11 : decode cJ9_appendNull 11 = .ok (.getfield 79, 3) := dk_180 0 79 (dk_at dksJ9_appendNull_0 11 rfl rfl)
theorem dJ9_appendNull_14 : decode cJ9_appendNull 14 = .ok (.istore_n 1, 1) := dk_60 (dk_at dksJ9_appendNull_0 14 rfl rfl)
theorem dJ9_appendNull_15 : decode cJ9_appendNull 15 = .ok (.aload_n 0, 1) := dk_42 (dk_at dksJ9_appendNull_0 15 rfl rfl)
theorem dJ9_appendNull_16 : decode cJ9_appendNull 16 = .ok (.getfield 15, 3) := dk_180 0 15 (dk_at dksJ9_appendNull_0 16 rfl rfl)
theorem dJ9_appendNull_19 : decode cJ9_appendNull 19 = .ok (.astore_n 2, 1) := dk_77 (dk_at dksJ9_appendNull_0 19 rfl rfl)
theorem dJ9_appendNull_20 : decode cJ9_appendNull 20 = .ok (.aload_n 0, 1) := dk_42 (dk_at dksJ9_appendNull_0 20 rfl rfl)
theorem dJ9_appendNull_21 : decode cJ9_appendNull 21 = .ok (.invokevirtual 83, 3) := dk_182 0 83 (dk_at dksJ9_appendNull_0 21 rfl rfl)
theorem dJ9_appendNull_24 : decode cJ9_appendNull 24 = .ok (.ifCond .eq 38, 3) := dk_153 0 38 (dk_at dksJ9_appendNull_1 0 rfl rfl)
theorem dJ9_appendNull_27 : decode cJ9_appendNull 27 = .ok (.aload_n 2, 1) := dk_44 (dk_at dksJ9_appendNull_1 3 rfl rfl)
theorem dJ9_appendNull_28 : decode cJ9_appendNull 28 = .ok (.iload_n 1, 1) := dk_27 (dk_at dksJ9_appendNull_1 4 rfl rfl)
theorem dJ9_appendNull_29 : decode cJ9_appendNull 29 = .ok (.iinc 1 1, 3) := dk_132 1 1 (dk_at dksJ9_appendNull_1 5 rfl rfl)
theorem dJ9_appendNull_32 : decode cJ9_appendNull 32 = .ok (.bipush 110, 2) := dk_16 110 (dk_at dksJ9_appendNull_1 8 rfl rfl)
theorem dJ9_appendNull_34 : decode cJ9_appendNull 34 = .ok (.bastore, 1) := dk_84 (dk_at dksJ9_appendNull_1 10 rfl rfl)
theorem dJ9_appendNull_35 : decode cJ9_appendNull 35 = .ok (.aload_n 2, 1) := dk_44 (dk_at dksJ9_appendNull_1 11 rfl rfl)
theorem dJ9_appendNull_36 : decode cJ9_appendNull 36 = .ok (.iload_n 1, 1) := dk_27 (dk_at dksJ9_appendNull_1 12 rfl rfl)
theorem dJ9_appendNull_37 : decode cJ9_appendNull 37 = .ok (.iinc 1 1, 3) := dk_132 1 1 (dk_at dksJ9_appendNull_1 13 rfl rfl)
theorem dJ9_appendNull_40 : decode cJ9_appendNull 40 = .ok (.bipush 117, 2) := dk_16 117 (dk_at dksJ9_appendNull_1 16 rfl rfl)
theorem dJ9_appendNull_42 : decode cJ9_appendNull 42 = .ok (.bastore, 1) := dk_84 (dk_at dksJ9_appendNull_1 18 rfl rfl)
theorem dJ9_appendNull_43 : decode cJ9_appendNull 43 = .ok (.aload_n 2, 1) := dk_44 (dk_at dksJ9_appendNull_1 19 rfl rfl)
theorem dJ9_appendNull_44 : decode cJ9_appendNull 44 = .ok (.iload_n 1, 1) := dk_27 (dk_at dksJ9_appendNull_1 20 rfl rfl)
theorem dJ9_appendNull_45 : decode cJ9_appendNull 45 = .ok (.iinc 1 1, 3) := dk_132 1 1 (dk_at dksJ9_appendNull_1 21 rfl rfl)
theorem dJ9_appendNull_48 : decode cJ9_appendNull 48 = .ok (.bipush 108, 2) := dk_16 108 (dk_at dksJ9_appendNull_2 0 rfl rfl)
theorem dJ9_appendNull_50 : decode cJ9_appendNull 50 = .ok (.bastore, 1) := dk_84 (dk_at dksJ9_appendNull_2 2 rfl rfl)
theorem dJ9_appendNull_51 : decode cJ9_appendNull 51 = .ok (.aload_n 2, 1) := dk_44 (dk_at dksJ9_appendNull_2 3 rfl rfl)
theorem dJ9_appendNull_52 : decode cJ9_appendNull 52 = .ok (.iload_n 1, 1) := dk_27 (dk_at dksJ9_appendNull_2 4 rfl rfl)
theorem dJ9_appendNull_53 : decode cJ9_appendNull 53 = .ok (.iinc 1 1, 3) := dk_132 1 1 (dk_at dksJ9_appendNull_2 5 rfl rfl)
theorem dJ9_appendNull_56 : decode cJ9_appendNull 56 = .ok (.bipush 108, 2) := dk_16 108 (dk_at dksJ9_appendNull_2 8 rfl rfl)
theorem dJ9_appendNull_58 : decode cJ9_appendNull 58 = .ok (.bastore, 1) := dk_84 (dk_at dksJ9_appendNull_2 10 rfl rfl)
theorem dJ9_appendNull_59 : decode cJ9_appendNull 59 = .ok (.goto 17, 3) := dk_167 0 17 (dk_at dksJ9_appendNull_2 11 rfl rfl)
theorem dJ9_appendNull_62 : decode cJ9_appendNull 62 = .ok (.aload_n 2, 1) := dk_44 (dk_at dksJ9_appendNull_2 14 rfl rfl)
theorem dJ9_appendNull_63 : decode cJ9_appendNull 63 = .ok (.iload_n 1, 1) := dk_27 (dk_at dksJ9_appendNull_2 15 rfl rfl)
theorem dJ9_appendNull_64 : decode cJ9_appendNull 64 = .ok (.bipush 110, 2) := dk_16 110 (dk_at dksJ9_appendNull_2 16 rfl rfl)
theorem dJ9_appendNull_66 : decode cJ9_appendNull 66 = .ok (.bipush 117, 2) := dk_16 117 (dk_at dksJ9_appendNull_2 18 rfl rfl)
theorem dJ9_appendNull_68 : decode cJ9_appendNull 68 = .ok (.bipush 108, 2) := dk_16 108 (dk_at dksJ9_appendNull_2 20 rfl rfl)
theorem dJ9_appendNull_70 : decode cJ9_appendNull 70 = .ok (.bipush 108, 2) := dk_16 108 (dk_at dksJ9_appendNull_2 22 rfl rfl)
theorem dJ9_appendNull_72 : decode cJ9_appendNull 72 = .ok (.invokestatic 226, 3) := dk_184 0 226 (dk_at dksJ9_appendNull_3 0 rfl rfl)
theorem dJ9_appendNull_75 : decode cJ9_appendNull 75 = .ok (.istore_n 1, 1) := dk_60 (dk_at dksJ9_appendNull_3 3 rfl rfl)
theorem dJ9_appendNull_76 : decode cJ9_appendNull 76 = .ok (.aload_n 0, 1) := dk_42 (dk_at dksJ9_appendNull_3 4 rfl rfl)
theorem dJ9_appendNull_77 : decode cJ9_appendNull 77 = .ok (.iload_n 1, 1) := dk_27 (dk_at dksJ9_appendNull_3 5 rfl rfl)
theorem dJ9_appendNull_78 : decode cJ9_appendNull 78 = .ok (.putfield 79, 3) := dk_181 0 79 (dk_at dksJ9_appendNull_3 6 rfl rfl)
theorem dJ9_appendNull_81 : decode cJ9_appendNull 81 = .ok (.aload_n 0, 1) := dk_42 (dk_at dksJ9_appendNull_3 9 rfl rfl)
theorem dJ9_appendNull_82 : decode cJ9_appendNull 82 = .ok (.areturn, 1) := dk_176 (dk_at dksJ9_appendNull_3 10 rfl rfl)
/-- java/lang/AbstractStringBuilder.appendNull()Ljava/lang/AbstractStringBuilder; -/
def zb337 (G : zPg) (C : zO) (args : List Value) (Q : zQ) (Y : zY) (σ : zS) : Prop := ∃ (a0 : Nat), args = [.ref a0] ∧ (zgI σ (some a0) 8 3 (fun v1 => zrc σ (some a0) 8 (fun a10 => zcl C 333 [.ref a10, .int (v1 + (4 : Int32))] Y σ (zqV (fun s8 => zgI s8 (some a0) 8 3 (fun v14 => zgR s8 (some a0) 8 0 (fun v20 => zrc s8 (some a0) 8 (fun a29 => zcl C 335 [.ref a29] Y s8 (zqI (fun v26 s27 => zJ (fun (p33 : Int32) (s34 : zS) => zput s34 G.1 (some a0) 8 3 (.int p33) (fun s36 => Q (some (va_rf (some a0))) s36)) (fun (j35 : Int32 → zS → Prop) => ((v26 = 0) → zcl C 376 [va_rf v20, .int v14, .int (110 : Int32), .int (117 : Int32), .int (108 : Int32), .int (108 : Int32)] Y s27 (zqI (fun v45 s46 => j35 v45 s46))) ∧ ((¬ v26 = 0) → (∀ v48 : Int32, v48 = v14 + (1 : Int32) → zsI s27 G.1 2 v20 v14 (vp_nar .byte (110 : Int32)) (fun s57 => (∀ v59 : Int32, v59 = v48 + (1 : Int32) → zsI s57 G.1 2 v20 v48 (vp_nar .byte (117 : Int32)) (fun s68 => (∀ v70 : Int32, v70 = v59 + (1 : Int32) → zsI s68 G.1 2 v20 v59 (vp_nar .byte (108 : Int32)) (fun s79 => (∀ v81 : Int32, v81 = v70 + (1 : Int32) → zsI s79 G.1 2 v20 v70 (vp_nar .byte (108 : Int32)) (fun s90 => j35 v81 s90))))))))))))))))))))
set_option maxHeartbeats 4000000 in
theorem wk337 {l : Launch} {g : zG} {d : Nat} {C : zO} (hG : zGk g) (hC : zSound l g d C) {args : List Value} {Q : zQ} {Y : zY} {σ : zS} (hw : zb337 (zpg g) C args Q Y σ) : zMet l g (d + 1) (⟨"java/lang/AbstractStringBuilder", "appendNull", "()Ljava/lang/AbstractStringBuilder;"⟩, Cond.code ⟨"java/lang/AbstractStringBuilder", "appendNull", "()Ljava/lang/AbstractStringBuilder;"⟩ prog_30_method_26_code 3 (Option.some (FieldType.object "java/lang/AbstractStringBuilder"))) args σ Q Y := by
  obtain ⟨a0, rfl, hw⟩ := hw
  refine zof hG (by decide +kernel) [false] ⟨rfl, trivial⟩ (Nat.le_of_ble_eq_true rfl) (ls := [some (va_rf (some a0)), none, none]) rfl ?_
  intro X hX hR hTb hd1 hd2 hl hg hnm
  subst hl
  subst hg
  have hd : zDep X d := ⟨hd1, hd2⟩
  refine z_aload_n hX dJ9_appendNull_0 rfl (i := 0) rfl ?_
  refine z_aload_n hX dJ9_appendNull_1 rfl (i := 0) rfl ?_
  obtain ⟨a2, f3, v1, r4, m5, e6, hw⟩ := hw
  refine z_get hX zc8 (k := 3) dJ9_appendNull_2 (Nat.le_of_ble_eq_true rfl) (zlk hX q1115) r4 m5 e6 ?_
  refine z_iconst hX (v := (4 : Int32)) dJ9_appendNull_5 (by decide) ?_
  refine z_iadd hX dJ9_appendNull_6 ?_
  obtain ⟨a10, f11, r12, m13, hw⟩ := hw
  refine z_invVP hX hd r12 (ci := 8) rfl rfl m13 dJ9_appendNull_7 (hC 333 _ zm333 _ _ _ _ hw) q1142 q1144 (z_selP hX (ci := 8) rfl q1143 q1144 zh15 q1165 rfl) zh15 q1145 q144 zn333 rfl (Nat.le_of_ble_eq_true rfl) (st := []) rfl (zcs8 (Nat.le_of_ble_eq_true rfl)) rfl (zkV (fun s8 hw => ?_)) (zout hX hR hTb)
  refine z_aload_n hX dJ9_appendNull_10 rfl (i := 0) rfl ?_
  obtain ⟨a15, f16, v14, r17, m18, e19, hw⟩ := hw
  refine z_get hX zc8 (k := 3) dJ9_appendNull_11 (Nat.le_of_ble_eq_true rfl) (zlk hX q1115) r17 m18 e19 ?_
  refine z_istore_n hX dJ9_appendNull_14 rfl (i := 1) (Nat.le_of_ble_eq_true rfl) (zc_rf _) (ls2 := [some (va_rf (some a0)), some (.int v14), none]) rfl ?_
  refine z_aload_n hX dJ9_appendNull_15 rfl (i := 0) rfl ?_
  obtain ⟨a21, f22, v20, r23, m24, e25, hw⟩ := hw
  refine z_get hX zc8 (k := 0) dJ9_appendNull_16 (Nat.le_of_ble_eq_true rfl) (zlk hX q1111) r23 m24 e25 ?_
  refine z_astore_n hX dJ9_appendNull_19 rfl (i := 2) (Nat.le_of_ble_eq_true rfl) rfl (ls2 := [some (va_rf (some a0)), some (.int v14), some (va_rf v20)]) rfl ?_
  refine z_aload_n hX dJ9_appendNull_20 rfl (i := 0) rfl ?_
  obtain ⟨a29, f30, r31, m32, hw⟩ := hw
  refine z_invV hX hd r31 (ci := 8) rfl rfl m32 dJ9_appendNull_21 (hC 335 _ zm335 _ _ _ _ hw) q1162 q1163 q1165 zh15 q1166 q144 zn335 rfl (Nat.le_of_ble_eq_true rfl) (st := []) rfl (zcs8 (Nat.le_of_ble_eq_true rfl)) rfl (zkI (fun v26 s27 hw => ?_)) (zout hX hR hTb)
  refine zJ_w (P := fun (j : Int32 → zS → Prop) => ∀ (p33 : Int32) (s34 : zS), j p33 s34 → zW X s34 76 [some (va_rf (some a0)), some (.int p33), none] []) hw (fun p33 s34 hw => ?_) (fun j35 hj35 hw => ?_)
  · refine z_aload_n hX dJ9_appendNull_76 rfl (i := 0) rfl ?_
    refine z_iload_n hX dJ9_appendNull_77 rfl (i := 1) rfl ?_
    obtain ⟨a38, f39, r40, g41, m42, l43, hw⟩ := hw
    refine z_put hX zc8 (k := 3) dJ9_appendNull_78 (Nat.le_of_ble_eq_true rfl) (zlk hX q1115) rfl rfl rfl r40 g41 m42 l43 (z_nm (fun s36 e37 => ?_))
    have hw := hw s36 e37
    refine z_aload_n hX dJ9_appendNull_81 rfl (i := 0) rfl ?_
    exact z_areturn hX hR dJ9_appendNull_82 (Or.inl ⟨_, rfl⟩) hw
  · refine z_if_eq hX dJ9_appendNull_24 (tgt := 62) rfl (fun c44 => ?_) (fun c44 => ?_)
    · have hw := hw.1 c44
      refine z_aload_n hX dJ9_appendNull_62 rfl (i := 2) rfl ?_
      refine z_iload_n hX dJ9_appendNull_63 rfl (i := 1) rfl ?_
      refine z_bipush hX (v := (110 : Int32)) dJ9_appendNull_64 (by decide) ?_
      refine z_bipush hX (v := (117 : Int32)) dJ9_appendNull_66 (by decide) ?_
      refine z_bipush hX (v := (108 : Int32)) dJ9_appendNull_68 (by decide) ?_
      refine z_bipush hX (v := (108 : Int32)) dJ9_appendNull_70 (by decide) ?_
      refine z_invS hX hd dJ9_appendNull_72 (hC 376 _ zm376 _ _ _ _ hw) q1191 q1192 zh18 q1193 q147 zn376 rfl (Nat.le_of_ble_eq_true rfl) (st := []) rfl (zcs8 (Nat.le_of_ble_eq_true rfl)) rfl (zkI (fun v45 s46 hw => ?_)) (zout hX hR hTb)
      refine z_istore_n hX dJ9_appendNull_75 rfl (i := 1) (Nat.le_of_ble_eq_true rfl) (zc_rf _) (ls2 := [some (va_rf (some a0)), some (.int v45), some (va_rf v20)]) rfl ?_
      refine z_sub (ls' := [some (va_rf (some a0)), some (.int v45), none]) (zsS (zsS (zsN (zs0)))) ?_
      exact hj35 _ _ hw
    · have hw := hw.2 c44
      refine z_aload_n hX dJ9_appendNull_27 rfl (i := 2) rfl ?_
      refine z_iload_n hX dJ9_appendNull_28 rfl (i := 1) rfl ?_
      obtain ⟨v48, e49⟩ : ∃ y : Int32, y = v14 + (1 : Int32) := ⟨_, rfl⟩
      refine z_iinc hX dJ9_appendNull_29 (i := 1) (v := v48) rfl (by rw [e49]; rfl) (Nat.le_of_ble_eq_true rfl) (zc_rf _) (ls2 := [some (va_rf (some a0)), some (.int v48), some (va_rf v20)]) rfl ?_
      have hw := hw v48 e49
      refine z_bipush hX (v := (110 : Int32)) dJ9_appendNull_32 (by decide) ?_
      obtain ⟨a50, n51, f52, r53, g54, m55, i56, hw⟩ := hw
      refine z_bast hX dJ9_appendNull_34 r53 g54 m55 i56 (z_nm (fun s57 e58 => ?_))
      have hw := hw s57 e58
      refine z_aload_n hX dJ9_appendNull_35 rfl (i := 2) rfl ?_
      refine z_iload_n hX dJ9_appendNull_36 rfl (i := 1) rfl ?_
      obtain ⟨v59, e60⟩ : ∃ y : Int32, y = v48 + (1 : Int32) := ⟨_, rfl⟩
      refine z_iinc hX dJ9_appendNull_37 (i := 1) (v := v59) rfl (by rw [e60]; rfl) (Nat.le_of_ble_eq_true rfl) (zc_rf _) (ls2 := [some (va_rf (some a0)), some (.int v59), some (va_rf v20)]) rfl ?_
      have hw := hw v59 e60
      refine z_bipush hX (v := (117 : Int32)) dJ9_appendNull_40 (by decide) ?_
      obtain ⟨a61, n62, f63, r64, g65, m66, i67, hw⟩ := hw
      refine z_bast hX dJ9_appendNull_42 r64 g65 m66 i67 (z_nm (fun s68 e69 => ?_))
      have hw := hw s68 e69
      refine z_aload_n hX dJ9_appendNull_43 rfl (i := 2) rfl ?_
      refine z_iload_n hX dJ9_appendNull_44 rfl (i := 1) rfl ?_
      obtain ⟨v70, e71⟩ : ∃ y : Int32, y = v59 + (1 : Int32) := ⟨_, rfl⟩
      refine z_iinc hX dJ9_appendNull_45 (i := 1) (v := v70) rfl (by rw [e71]; rfl) (Nat.le_of_ble_eq_true rfl) (zc_rf _) (ls2 := [some (va_rf (some a0)), some (.int v70), some (va_rf v20)]) rfl ?_
      have hw := hw v70 e71
      refine z_bipush hX (v := (108 : Int32)) dJ9_appendNull_48 (by decide) ?_
      obtain ⟨a72, n73, f74, r75, g76, m77, i78, hw⟩ := hw
      refine z_bast hX dJ9_appendNull_50 r75 g76 m77 i78 (z_nm (fun s79 e80 => ?_))
      have hw := hw s79 e80
      refine z_aload_n hX dJ9_appendNull_51 rfl (i := 2) rfl ?_
      refine z_iload_n hX dJ9_appendNull_52 rfl (i := 1) rfl ?_
      obtain ⟨v81, e82⟩ : ∃ y : Int32, y = v70 + (1 : Int32) := ⟨_, rfl⟩
      refine z_iinc hX dJ9_appendNull_53 (i := 1) (v := v81) rfl (by rw [e82]; rfl) (Nat.le_of_ble_eq_true rfl) (zc_rf _) (ls2 := [some (va_rf (some a0)), some (.int v81), some (va_rf v20)]) rfl ?_
      have hw := hw v81 e82
      refine z_bipush hX (v := (108 : Int32)) dJ9_appendNull_56 (by decide) ?_
      obtain ⟨a83, n84, f85, r86, g87, m88, i89, hw⟩ := hw
      refine z_bast hX dJ9_appendNull_58 r86 g87 m88 i89 (z_nm (fun s90 e91 => ?_))
      have hw := hw s90 e91
      refine z_goto hX dJ9_appendNull_59 (tgt := 76) rfl ?_
      refine z_sub (ls' := [some (va_rf (some a0)), some (.int v81), none]) (zsS (zsS (zsN (zs0)))) ?_
      exact hj35 _ _ hw
abbrev cJ9_putStringAt : ByteArray := prog_30_method_73_code
def yJ9_putStringAt : MethodName := ⟨RJ9, "putStringAt", "(ILjava/lang/String;)V"⟩
def dkwJ9_putStringAt_0 : List UInt8 := [42, 44, 182, 1, 141, 44, 42, 180, 0, 15, 27, 42, 180, 0, 22, 182, 1, 143, 177]
abbrev dktJ9_putStringAt_0 : List UInt8 := dkwJ9_putStringAt_0 ++ []
theorem dksJ9_putStringAt_0 : cJ9_putStringAt.data.toList.drop 0 = dktJ9_putStringAt_0 := by decide +kernel
theorem dJ9_putStringAt_0 : decode cJ9_putStringAt 0 = .ok (.aload_n 0, 1) := dk_42 (dk_at dksJ9_putStringAt_0 0 rfl rfl)
theorem dJ9_putStringAt_1 : decode cJ9_putStringAt 1 = .ok (.aload_n 2, 1) := dk_44 (dk_at dksJ9_putStringAt_0 1 rfl rfl)
theorem dJ9_putStringAt_2 : decode cJ9_putStringAt 2 = .ok (.invokevirtual 397, 3) := dk_182 1 141 (dk_at dksJ9_putStringAt_0 2 rfl rfl)
theorem dJ9_putStringAt_5 : decode cJ9_putStringAt 5 = .ok (.aload_n 2, 1) := dk_44 (dk_at dksJ9_putStringAt_0 5 rfl rfl)
theorem dJ9_putStringAt_6 : decode cJ9_putStringAt 6 = .ok (.aload_n 0, 1) := dk_42 (dk_at dksJ9_putStringAt_0 6 rfl rfl)
theorem dJ9_putStringAt_7 : decode cJ9_putStringAt 7 = .ok (.getfield 15, 3) := dk_180 0 15 (dk_at dksJ9_putStringAt_0 7 rfl rfl)
theorem dJ9_putStringAt_10 : decode cJ9_putStringAt 10 = .ok (.iload_n 1, 1) := dk_27 (dk_at dksJ9_putStringAt_0 10 rfl rfl)
theorem dJ9_putStringAt_11 : decode cJ9_putStringAt 11 = .ok (.aload_n 0, 1) := dk_42 (dk_at dksJ9_putStringAt_0 11 rfl rfl)
theorem dJ9_putStringAt_12 : decode cJ9_putStringAt 12 = .ok (.getfield 22, 3) := dk_180 0 22 (dk_at dksJ9_putStringAt_0 12 rfl rfl)
theorem dJ9_putStringAt_15 : decode cJ9_putStringAt 15 = .ok (.invokevirtual 399, 3) := dk_182 1 143 (dk_at dksJ9_putStringAt_0 15 rfl rfl)
theorem dJ9_putStringAt_18 : decode cJ9_putStringAt 18 = .ok (.return_, 1) := dk_177 (dk_at dksJ9_putStringAt_0 18 rfl rfl)
/-- java/lang/AbstractStringBuilder.putStringAt(ILjava/lang/String;)V -/
def zb338 (G : zPg) (C : zO) (args : List Value) (Q : zQ) (Y : zY) (σ : zS) : Prop := ∃ (a0 : Nat) (x1 : Int32) (x2 : Option Nat), args = [.ref a0, .int x1, va_rf x2] ∧ (zrc σ (some a0) 8 (fun a4 => zcl C 339 [.ref a4, va_rf x2] Y σ (zqV (fun s2 => zgR s2 (some a0) 8 0 (fun v8 => zgI s2 (some a0) 8 1 (fun v14 => zrc s2 x2 9 (fun a23 => zcl C 362 [.ref a23, va_rf v8, .int x1, .int v14] Y s2 (zqV (fun s21 => Q none s21)))))))))
set_option maxHeartbeats 4000000 in
theorem wk338 {l : Launch} {g : zG} {d : Nat} {C : zO} (hG : zGk g) (hC : zSound l g d C) {args : List Value} {Q : zQ} {Y : zY} {σ : zS} (hw : zb338 (zpg g) C args Q Y σ) : zMet l g (d + 1) (⟨"java/lang/AbstractStringBuilder", "putStringAt", "(ILjava/lang/String;)V"⟩, Cond.code ⟨"java/lang/AbstractStringBuilder", "putStringAt", "(ILjava/lang/String;)V"⟩ prog_30_method_73_code 3 (Option.none : Option FieldType)) args σ Q Y := by
  obtain ⟨a0, x1, x2, rfl, hw⟩ := hw
  refine zof hG (by decide +kernel) [false, false, false] ⟨rfl, rfl, (zc_rf _), trivial⟩ (Nat.le_of_ble_eq_true rfl) (ls := [some (va_rf (some a0)), some (.int x1), some (va_rf x2)]) rfl ?_
  intro X hX hR hTb hd1 hd2 hl hg hnm
  subst hl
  subst hg
  have hd : zDep X d := ⟨hd1, hd2⟩
  refine z_aload_n hX dJ9_putStringAt_0 rfl (i := 0) rfl ?_
  refine z_aload_n hX dJ9_putStringAt_1 rfl (i := 2) rfl ?_
  obtain ⟨a4, f5, r6, m7, hw⟩ := hw
  refine z_invVP hX hd r6 (ci := 8) rfl rfl m7 dJ9_putStringAt_2 (hC 339 _ zm339 _ _ _ _ hw) q1211 q1213 (z_selP hX (ci := 8) rfl q1212 q1213 zh15 q1165 rfl) zh15 q1214 q144 zn339 rfl (Nat.le_of_ble_eq_true rfl) (st := []) rfl (zcs8 (Nat.le_of_ble_eq_true rfl)) rfl (zkV (fun s2 hw => ?_)) (zout hX hR hTb)
  refine z_aload_n hX dJ9_putStringAt_5 rfl (i := 2) rfl ?_
  refine z_aload_n hX dJ9_putStringAt_6 rfl (i := 0) rfl ?_
  obtain ⟨a9, f10, v8, r11, m12, e13, hw⟩ := hw
  refine z_get hX zc8 (k := 0) dJ9_putStringAt_7 (Nat.le_of_ble_eq_true rfl) (zlk hX q1111) r11 m12 e13 ?_
  refine z_iload_n hX dJ9_putStringAt_10 rfl (i := 1) rfl ?_
  refine z_aload_n hX dJ9_putStringAt_11 rfl (i := 0) rfl ?_
  obtain ⟨a15, f16, v14, r17, m18, e19, hw⟩ := hw
  refine z_get hX zc8 (k := 1) dJ9_putStringAt_12 (Nat.le_of_ble_eq_true rfl) (zlk hX q1112) r17 m18 e19 ?_
  obtain ⟨a23, f24, r25, m26, hw⟩ := hw
  refine z_invV hX hd r25 (ci := 9) rfl rfl m26 dJ9_putStringAt_15 (hC 362 _ zm362 _ _ _ _ hw) q1235 q1236 q1237 zh17 q1238 q146 zn362 rfl (Nat.le_of_ble_eq_true rfl) (st := []) rfl (zcs8 (Nat.le_of_ble_eq_true rfl)) rfl (zkV (fun s21 hw => ?_)) (zout hX hR hTb)
  exact z_return hX hR dJ9_putStringAt_18 hw
abbrev cJ9_inflateIfNeededFor : ByteArray := prog_30_method_71_code
def yJ9_inflateIfNeededFor : MethodName := ⟨RJ9, "inflateIfNeededFor", "(Ljava/lang/String;)V"⟩
def dkwJ9_inflateIfNeededFor_0 : List UInt8 := [178, 0, 18, 153, 0, 18, 42, 180, 0, 22, 43, 182, 0, 40, 159, 0, 7, 42, 182, 0, 195, 177]
abbrev dktJ9_inflateIfNeededFor_0 : List UInt8 := dkwJ9_inflateIfNeededFor_0 ++ []
theorem dksJ9_inflateIfNeededFor_0 : cJ9_inflateIfNeededFor.data.toList.drop 0 = dktJ9_inflateIfNeededFor_0 := by decide +kernel
theorem dJ9_inflateIfNeededFor_0 : decode cJ9_inflateIfNeededFor 0 = .ok (.getstatic 18, 3) := dk_178 0 18 (dk_at dksJ9_inflateIfNeededFor_0 0 rfl rfl)
theorem dJ9_inflateIfNeededFor_3 : decode cJ9_inflateIfNeededFor 3 = .ok (.ifCond .eq 18, 3) := dk_153 0 18 (dk_at dksJ9_inflateIfNeededFor_0 3 rfl rfl)
theorem dJ9_inflateIfNeededFor_6 : decode cJ9_inflateIfNeededFor 6 = .ok (.aload_n 0, 1) := dk_42 (dk_at dksJ9_inflateIfNeededFor_0 6 rfl rfl)
theorem dJ9_inflateIfNeededFor_7 : decode cJ9_inflateIfNeededFor 7 = .ok (.getfield 22, 3) := dk_180 0 22 (dk_at dksJ9_inflateIfNeededFor_0 7 rfl rfl)
theorem dJ9_inflateIfNeededFor_10 : decode cJ9_inflateIfNeededFor 10 = .ok (.aload_n 1, 1) := dk_43 (dk_at dksJ9_inflateIfNeededFor_0 10 rfl rfl)
theorem dJ9_inflateIfNeededFor_11 : decode cJ9_inflateIfNeededFor 11 = .ok (.invokevirtual 40, 3) := dk_182 0 40 (dk_at dksJ9_inflateIfNeededFor_0 11 rfl rfl)
theorem dJ9_inflateIfNeededFor_14 : decode cJ9_inflateIfNeededFor 14 = .ok (.if_icmp .eq 7, 3) := dk_159 0 7 (dk_at dksJ9_inflateIfNeededFor_0 14 rfl rfl)
theorem dJ9_inflateIfNeededFor_17 : decode cJ9_inflateIfNeededFor 17 = .ok (.aload_n 0, 1) := dk_42 (dk_at dksJ9_inflateIfNeededFor_0 17 rfl rfl)
theorem dJ9_inflateIfNeededFor_18 : decode cJ9_inflateIfNeededFor 18 = .ok (.invokevirtual 195, 3) := dk_182 0 195 (dk_at dksJ9_inflateIfNeededFor_0 18 rfl rfl)
theorem dJ9_inflateIfNeededFor_21 : decode cJ9_inflateIfNeededFor 21 = .ok (.return_, 1) := dk_177 (dk_at dksJ9_inflateIfNeededFor_0 21 rfl rfl)
/-- java/lang/AbstractStringBuilder.inflateIfNeededFor(Ljava/lang/String;)V -/
def zb339 (G : zPg) (C : zO) (args : List Value) (Q : zQ) (Y : zY) (σ : zS) : Prop := ∃ (a0 : Nat) (x1 : Option Nat), args = [.ref a0, va_rf x1] ∧ (zJ (fun  (s1 : zS) => Q none s1) (fun (j2 : zS → Prop) => (((1 : Int32) = 0) → j2 σ) ∧ ((¬ (1 : Int32) = 0) → zgI σ (some a0) 8 1 (fun v4 => zrc σ x1 9 (fun a13 => zcl C 356 [.ref a13] Y σ (zqI (fun v10 s11 => ((v4 = v10) → j2 s11) ∧ ((¬ v4 = v10) → zrc s11 (some a0) 8 (fun a21 => zcl C 340 [.ref a21] Y s11 (zqV (fun s19 => j2 s19)))))))))))
set_option maxHeartbeats 4000000 in
theorem wk339 {l : Launch} {g : zG} {d : Nat} {C : zO} (hG : zGk g) (hC : zSound l g d C) {args : List Value} {Q : zQ} {Y : zY} {σ : zS} (hw : zb339 (zpg g) C args Q Y σ) : zMet l g (d + 1) (⟨"java/lang/AbstractStringBuilder", "inflateIfNeededFor", "(Ljava/lang/String;)V"⟩, Cond.code ⟨"java/lang/AbstractStringBuilder", "inflateIfNeededFor", "(Ljava/lang/String;)V"⟩ prog_30_method_71_code 2 (Option.none : Option FieldType)) args σ Q Y := by
  obtain ⟨a0, x1, rfl, hw⟩ := hw
  refine zof hG (by decide +kernel) [false, false] ⟨rfl, (zc_rf _), trivial⟩ (Nat.le_of_ble_eq_true rfl) (ls := [some (va_rf (some a0)), some (va_rf x1)]) rfl ?_
  intro X hX hR hTb hd1 hd2 hl hg hnm
  subst hl
  subst hg
  have hd : zDep X d := ⟨hd1, hd2⟩
  refine z_gets hX dJ9_inflateIfNeededFor_0 (List.mem_of_getElem? (i := 11) rfl) q1103 rfl ?_
  show zW _ _ _ _ (.int (1 : Int32) :: _)
  refine zJ_w (P := fun (j : zS → Prop) => ∀  (s1 : zS), j  s1 → zW X s1 21 [none, none] []) hw (fun  s1 hw => ?_) (fun j2 hj2 hw => ?_)
  · exact z_return hX hR dJ9_inflateIfNeededFor_21 hw
  · refine z_if_eq hX dJ9_inflateIfNeededFor_3 (tgt := 21) rfl (fun c3 => ?_) (fun c3 => ?_)
    · have hw := hw.1 c3
      refine z_sub (ls' := [none, none]) (zsN (zsN (zs0))) ?_
      exact hj2  _ hw
    · have hw := hw.2 c3
      refine z_aload_n hX dJ9_inflateIfNeededFor_6 rfl (i := 0) rfl ?_
      obtain ⟨a5, f6, v4, r7, m8, e9, hw⟩ := hw
      refine z_get hX zc8 (k := 1) dJ9_inflateIfNeededFor_7 (Nat.le_of_ble_eq_true rfl) (zlk hX q1112) r7 m8 e9 ?_
      refine z_aload_n hX dJ9_inflateIfNeededFor_10 rfl (i := 1) rfl ?_
      obtain ⟨a13, f14, r15, m16, hw⟩ := hw
      refine z_invV hX hd r15 (ci := 9) rfl rfl m16 dJ9_inflateIfNeededFor_11 (hC 356 _ zm356 _ _ _ _ hw) q1215 q1009 q1010 zh17 q1011 q146 zn356 rfl (Nat.le_of_ble_eq_true rfl) (st := [.int v4]) rfl (zcs8 (Nat.le_of_ble_eq_true rfl)) rfl (zkI (fun v10 s11 hw => ?_)) (zout hX hR hTb)
      refine z_icmp_eq hX dJ9_inflateIfNeededFor_14 (tgt := 21) rfl (fun c17 => ?_) (fun c17 => ?_)
      · have hw := hw.1 c17
        refine z_sub (ls' := [none, none]) (zsN (zsN (zs0))) ?_
        exact hj2  _ hw
      · have hw := hw.2 c17
        refine z_aload_n hX dJ9_inflateIfNeededFor_17 rfl (i := 0) rfl ?_
        obtain ⟨a21, f22, r23, m24, hw⟩ := hw
        refine z_invVP hX hd r23 (ci := 8) rfl rfl m24 dJ9_inflateIfNeededFor_18 (hC 340 _ zm340 _ _ _ _ hw) q1216 q1218 (z_selP hX (ci := 8) rfl q1217 q1218 zh15 q1165 rfl) zh15 q1219 q144 zn340 rfl (Nat.le_of_ble_eq_true rfl) (st := []) rfl (zcs8 (Nat.le_of_ble_eq_true rfl)) rfl (zkV (fun s19 hw => ?_)) (zout hX hR hTb)
        refine z_sub (ls' := [none, none]) (zsN (zsN (zs0))) ?_
        exact hj2  _ hw
abbrev cJ9_inflate : ByteArray := prog_30_method_11_code
def yJ9_inflate : MethodName := ⟨RJ9, "inflate", "()V"⟩
def dkwJ9_inflate_1 : List UInt8 := [42, 180, 0, 79, 184, 0, 125, 42, 43, 181, 0, 15, 42, 4, 181, 0, 22, 177]
abbrev dktJ9_inflate_1 : List UInt8 := dkwJ9_inflate_1 ++ []
def dkwJ9_inflate_0 : List UInt8 := [42, 182, 0, 83, 154, 0, 4, 177, 42, 180, 0, 15, 190, 184, 0, 26, 76, 42, 180, 0, 15, 3, 43, 3]
abbrev dktJ9_inflate_0 : List UInt8 := dkwJ9_inflate_0 ++ dktJ9_inflate_1
theorem dksJ9_inflate_0 : cJ9_inflate.data.toList.drop 0 = dktJ9_inflate_0 := by decide +kernel
theorem dksJ9_inflate_1 : cJ9_inflate.data.toList.drop 24 = dktJ9_inflate_1 := dk_seg dksJ9_inflate_0 24 rfl rfl
theorem dJ9_inflate_0 : decode cJ9_inflate 0 = .ok (.aload_n 0, 1) := dk_42 (dk_at dksJ9_inflate_0 0 rfl rfl)
theorem dJ9_inflate_1 : decode cJ9_inflate 1 = .ok (.invokevirtual 83, 3) := dk_182 0 83 (dk_at dksJ9_inflate_0 1 rfl rfl)
theorem dJ9_inflate_4 : decode cJ9_inflate 4 = .ok (.ifCond .ne 4, 3) := dk_154 0 4 (dk_at dksJ9_inflate_0 4 rfl rfl)
theorem dJ9_inflate_7 : decode cJ9_inflate 7 = .ok (.return_, 1) := dk_177 (dk_at dksJ9_inflate_0 7 rfl rfl)
theorem dJ9_inflate_8 : decode cJ9_inflate 8 = .ok (.aload_n 0, 1) := dk_42 (dk_at dksJ9_inflate_0 8 rfl rfl)
theorem dJ9_inflate_9 : decode cJ9_inflate 9 = .ok (.getfield 15, 3) := dk_180 0 15 (dk_at dksJ9_inflate_0 9 rfl rfl)
theorem dJ9_inflate_12 : decode cJ9_inflate 12 = .ok (.arraylength, 1) := dk_190 (dk_at dksJ9_inflate_0 12 rfl rfl)
theorem dJ9_inflate_13 : decode cJ9_inflate 13 = .ok (.invokestatic 26, 3) := dk_184 0 26 (dk_at dksJ9_inflate_0 13 rfl rfl)
theorem dJ9_inflate_16 : decode cJ9_inflate 16 = .ok (.astore_n 1, 1) := dk_76 (dk_at dksJ9_inflate_0 16 rfl rfl)
theorem dJ9_inflate_17 : decode cJ9_inflate 17 = .ok (.aload_n 0, 1) := dk_42 (dk_at dksJ9_inflate_0 17 rfl rfl)
theorem dJ9_inflate_18 : decode cJ9_inflate 18 = .ok (.getfield 15, 3) := dk_180 0 15 (dk_at dksJ9_inflate_0 18 rfl rfl)
theorem dJ9_inflate_21 : decode cJ9_inflate 21 = .ok (.iconst 0, 1) := dk_3 (dk_at dksJ9_inflate_0 21 rfl rfl)
theorem dJ9_inflate_22 : decode cJ9_inflate 22 = .ok (.aload_n 1, 1) := dk_43 (dk_at dksJ9_inflate_0 22 rfl rfl)
theorem dJ9_inflate_23 : decode cJ9_inflate 23 = .ok (.iconst 0, 1) := dk_3 (dk_at dksJ9_inflate_0 23 rfl rfl)
theorem dJ9_inflate_24 : decode cJ9_inflate 24 = .ok (.aload_n 0, 1) := dk_42 (dk_at dksJ9_inflate_1 0 rfl rfl)
theorem dJ9_inflate_25 : decode cJ9_inflate 25 = .ok (.getfield 79, 3) := dk_180 0 79 (dk_at dksJ9_inflate_1 1 rfl rfl)
theorem dJ9_inflate_28 : decode cJ9_inflate 28 = .ok (.invokestatic 125, 3) := dk_184 0 125 (dk_at dksJ9_inflate_1 4 rfl rfl)
theorem dJ9_inflate_31 : decode cJ9_inflate 31 = .ok (.aload_n 0, 1) := dk_42 (dk_at dksJ9_inflate_1 7 rfl rfl)
theorem dJ9_inflate_32 : decode cJ9_inflate 32 = .ok (.aload_n 1, 1) := dk_43 (dk_at dksJ9_inflate_1 8 rfl rfl)
theorem dJ9_inflate_33 : decode cJ9_inflate 33 = .ok (.putfield 15, 3) := dk_181 0 15 (dk_at dksJ9_inflate_1 9 rfl rfl)
theorem dJ9_inflate_36 : decode cJ9_inflate 36 = .ok (.aload_n 0, 1) := dk_42 (dk_at dksJ9_inflate_1 12 rfl rfl)
theorem dJ9_inflate_37 : decode cJ9_inflate 37 = .ok (.iconst 1, 1) := dk_4 (dk_at dksJ9_inflate_1 13 rfl rfl)
theorem dJ9_inflate_38 : decode cJ9_inflate 38 = .ok (.putfield 22, 3) := dk_181 0 22 (dk_at dksJ9_inflate_1 14 rfl rfl)
theorem dJ9_inflate_41 : decode cJ9_inflate 41 = .ok (.return_, 1) := dk_177 (dk_at dksJ9_inflate_1 17 rfl rfl)
/-- java/lang/AbstractStringBuilder.inflate()V -/
def zb340 (G : zPg) (C : zO) (args : List Value) (Q : zQ) (Y : zY) (σ : zS) : Prop := ∃ (a0 : Nat), args = [.ref a0] ∧ (zrc σ (some a0) 8 (fun a4 => zcl C 335 [.ref a4] Y σ (zqI (fun v1 s2 => ((¬ v1 = 0) → zgR s2 (some a0) 8 0 (fun v9 => zln s2 2 v9 (fun v19 => zcl C 374 [.int v19] Y s2 (zqR (fun v21 s22 => zgR s22 (some a0) 8 0 (fun v24 => zgI s22 (some a0) 8 3 (fun v30 => zcl C 416 [va_rf v24, .int (0 : Int32), va_rf v21, .int (0 : Int32), .int v30] Y s22 (zqV (fun s37 => zput s37 G.1 (some a0) 8 0 (va_rf v21) (fun s39 => ((narrow .byte (.int (1 : Int32)) = .int (1 : Int32) ∧ fits .byte (.int (1 : Int32)) = true) ∧ zput s39 G.1 (some a0) 8 1 (.int (1 : Int32)) (fun s47 => Q none s47)))))))))))) ∧ ((v1 = 0) → Q none s2)))))
set_option maxHeartbeats 4000000 in
theorem wk340 {l : Launch} {g : zG} {d : Nat} {C : zO} (hG : zGk g) (hC : zSound l g d C) {args : List Value} {Q : zQ} {Y : zY} {σ : zS} (hw : zb340 (zpg g) C args Q Y σ) : zMet l g (d + 1) (⟨"java/lang/AbstractStringBuilder", "inflate", "()V"⟩, Cond.code ⟨"java/lang/AbstractStringBuilder", "inflate", "()V"⟩ prog_30_method_11_code 2 (Option.none : Option FieldType)) args σ Q Y := by
  obtain ⟨a0, rfl, hw⟩ := hw
  refine zof hG (by decide +kernel) [false] ⟨rfl, trivial⟩ (Nat.le_of_ble_eq_true rfl) (ls := [some (va_rf (some a0)), none]) rfl ?_
  intro X hX hR hTb hd1 hd2 hl hg hnm
  subst hl
  subst hg
  have hd : zDep X d := ⟨hd1, hd2⟩
  refine z_aload_n hX dJ9_inflate_0 rfl (i := 0) rfl ?_
  obtain ⟨a4, f5, r6, m7, hw⟩ := hw
  refine z_invV hX hd r6 (ci := 8) rfl rfl m7 dJ9_inflate_1 (hC 335 _ zm335 _ _ _ _ hw) q1162 q1163 q1165 zh15 q1166 q144 zn335 rfl (Nat.le_of_ble_eq_true rfl) (st := []) rfl (zcs8 (Nat.le_of_ble_eq_true rfl)) rfl (zkI (fun v1 s2 hw => ?_)) (zout hX hR hTb)
  refine z_if_ne hX dJ9_inflate_4 (tgt := 8) rfl (fun c8 => ?_) (fun c8 => ?_)
  · have hw := hw.1 c8
    refine z_aload_n hX dJ9_inflate_8 rfl (i := 0) rfl ?_
    obtain ⟨a10, f11, v9, r12, m13, e14, hw⟩ := hw
    refine z_get hX zc8 (k := 0) dJ9_inflate_9 (Nat.le_of_ble_eq_true rfl) (zlk hX q1111) r12 m13 e14 ?_
    obtain ⟨a15, n16, r17, m18, hw⟩ := hw
    refine z_alen hX 2 dJ9_inflate_12 r17 m18 ?_
    revert hw
    generalize nI n16.1 = v19
    intro hw
    refine z_invS hX hd dJ9_inflate_13 (hC 374 _ zm374 _ _ _ _ hw) q1104 q1105 zh18 q1106 q147 zn374 rfl (Nat.le_of_ble_eq_true rfl) (st := []) rfl (zcs8 (Nat.le_of_ble_eq_true rfl)) rfl (zkR (fun v21 s22 hw => ?_)) (zout hX hR hTb)
    refine z_astore_n hX dJ9_inflate_16 rfl (i := 1) (Nat.le_of_ble_eq_true rfl) (zc_rf _) (ls2 := [some (va_rf (some a0)), some (va_rf v21)]) rfl ?_
    refine z_aload_n hX dJ9_inflate_17 rfl (i := 0) rfl ?_
    obtain ⟨a25, f26, v24, r27, m28, e29, hw⟩ := hw
    refine z_get hX zc8 (k := 0) dJ9_inflate_18 (Nat.le_of_ble_eq_true rfl) (zlk hX q1111) r27 m28 e29 ?_
    refine z_iconst hX (v := (0 : Int32)) dJ9_inflate_21 (by decide) ?_
    refine z_aload_n hX dJ9_inflate_22 rfl (i := 1) rfl ?_
    refine z_iconst hX (v := (0 : Int32)) dJ9_inflate_23 (by decide) ?_
    refine z_aload_n hX dJ9_inflate_24 rfl (i := 0) rfl ?_
    obtain ⟨a31, f32, v30, r33, m34, e35, hw⟩ := hw
    refine z_get hX zc8 (k := 3) dJ9_inflate_25 (Nat.le_of_ble_eq_true rfl) (zlk hX q1115) r33 m34 e35 ?_
    refine z_invS hX hd dJ9_inflate_28 (hC 416 _ zm416 _ _ _ _ hw) q1220 q1221 zh21 q1222 q151 zn416 rfl (Nat.le_of_ble_eq_true rfl) (st := []) rfl (zcs8 (Nat.le_of_ble_eq_true rfl)) rfl (zkV (fun s37 hw => ?_)) (zout hX hR hTb)
    refine z_aload_n hX dJ9_inflate_31 rfl (i := 0) rfl ?_
    refine z_aload_n hX dJ9_inflate_32 rfl (i := 1) rfl ?_
    obtain ⟨a41, f42, r43, g44, m45, l46, hw⟩ := hw
    refine z_put hX zc8 (k := 0) dJ9_inflate_33 (Nat.le_of_ble_eq_true rfl) (zlk hX q1111) rfl (zn_a _ _) (zf_a _ _) r43 g44 m45 l46 (z_nm (fun s39 e40 => ?_))
    have hw := hw s39 e40
    refine z_aload_n hX dJ9_inflate_36 rfl (i := 0) rfl ?_
    refine z_iconst hX (v := (1 : Int32)) dJ9_inflate_37 (by decide) ?_
    obtain ⟨b55, hw⟩ := hw
    obtain ⟨a49, f50, r51, g52, m53, l54, hw⟩ := hw
    refine z_put hX zc8 (k := 1) dJ9_inflate_38 (Nat.le_of_ble_eq_true rfl) (zlk hX q1112) rfl b55.1 b55.2 r51 g52 m53 l54 (z_nm (fun s47 e48 => ?_))
    have hw := hw s47 e48
    exact z_return hX hR dJ9_inflate_41 hw
  · have hw := hw.2 c8
    exact z_return hX hR dJ9_inflate_7 hw
abbrev cJ9_append_2 : ByteArray := prog_30_method_32_code
def yJ9_append_2 : MethodName := ⟨RJ9, "append", "(I)Ljava/lang/AbstractStringBuilder;"⟩
def dkwJ9_append_2_2 : List UInt8 := [42, 29, 181, 0, 79, 42, 176]
abbrev dktJ9_append_2_2 : List UInt8 := dkwJ9_append_2_2 ++ []
def dkwJ9_append_2_1 : List UInt8 := [27, 29, 42, 180, 0, 15, 184, 0, 248, 87, 167, 0, 14, 27, 28, 29, 42, 180, 0, 15, 184, 0, 251, 87]
abbrev dktJ9_append_2_1 : List UInt8 := dkwJ9_append_2_1 ++ dktJ9_append_2_2
def dkwJ9_append_2_0 : List UInt8 := [42, 180, 0, 79, 61, 28, 27, 184, 0, 245, 96, 62, 42, 29, 182, 0, 100, 42, 182, 0, 83, 153, 0, 16]
abbrev dktJ9_append_2_0 : List UInt8 := dkwJ9_append_2_0 ++ dktJ9_append_2_1
theorem dksJ9_append_2_0 : cJ9_append_2.data.toList.drop 0 = dktJ9_append_2_0 := by decide +kernel
theorem dksJ9_append_2_1 : cJ9_append_2.data.toList.drop 24 = dktJ9_append_2_1 := dk_seg dksJ9_append_2_0 24 rfl rfl
theorem dksJ9_append_2_2 : cJ9_append_2.data.toList.drop 48 = dktJ9_append_2_2 := dk_seg dksJ9_append_2_1 24 rfl rfl
theorem dJ9_append_2_0 : decode cJ9_append_2 0 = .ok (.aload_n 0, 1) := dk_42 (dk_at dksJ9_append_2_0 0 rfl rfl)
theorem dJ9_append_2_1 : decode cJ9_append_2 1 = .ok (.getfield 79, 3) := dk_180 0 79 (dk_at dksJ9_append_2_0 1 rfl rfl)
theorem dJ9_append_2_4 : decode cJ9_append_2 4 = .ok (.istore_n 2, 1) := dk_61 (dk_at dksJ9_append_2_0 4 rfl rfl)
theorem dJ9_append_2_5 : decode cJ9_append_2 5 = .ok (.iload_n 2, 1) := dk_28 (dk_at dksJ9_append_2_0 5 rfl rfl)
theorem dJ9_append_2_6 : decode cJ9_append_2 6 = .ok (.iload_n 1, 1) := dk_27 (dk_at dksJ9_append_2_0 6 rfl rfl)
theorem dJ9_append_2_7 : decode cJ9_append_2 7 = .ok (.invokestatic 245, 3) := dk_184 0 245 (dk_at dksJ9_append_2_0 7 rfl rfl)
theorem dJ9_append_2_10 : decode cJ9_append_2 10 = .ok (.iadd, 1) := dk_96 (dk_at dksJ9_append_2_0 10 rfl rfl)
theorem dJ9_append_2_11 : decode cJ9_append_2 11 = .ok (.istore_n 3, 1) := dk_62 (dk_at dksJ9_append_2_0 11 rfl rfl)
theorem dJ9_append_2_12 : decode cJ9_append_2 12 = .ok (.aload_n 0, 1) := dk_42 (dk_at dksJ9_append_2_0 12 rfl rfl)
theorem dJ9_append_2_13 : decode cJ9_append_2 13 = .ok (.iload_n 3, 1) := dk_29 (dk_at dksJ9_append_2_0 13 rfl rfl)
theorem dJ9_append_2_14 : decode cJ9_append_2 14 = .ok (.invokevirtual 100, 3) := dk_182 0 100 (dk_at dksJ9_append_2_0 14 rfl rfl)
theorem dJ9_append_2_17 : decode cJ9_append_2 17 = .ok (.aload_n 0, 1) := dk_42 (dk_at dksJ9_append_2_0 17 rfl rfl)
theorem dJ9_append_2_18 : decode cJ9_append_2 18 = .ok (.invokevirtual 83, 3) := dk_182 0 83 (dk_at dksJ9_append_2_0 18 rfl rfl)
theorem dJ9_append_2_21 : decode cJ9_append_2 21 = .ok (.ifCond .eq 16, 3) := dk_153 0 16 (dk_at dksJ9_append_2_0 21 rfl rfl)
theorem dJ9_append_2_24 : decode cJ9_append_2 24 = .ok (.iload_n 1, 1) := dk_27 (dk_at dksJ9_append_2_1 0 rfl rfl)
theorem dJ9_append_2_25 : decode cJ9_append_2 25 = .ok (.iload_n 3, 1) := dk_29 (dk_at dksJ9_append_2_1 1 rfl rfl)
theorem dJ9_append_2_26 : decode cJ9_append_2 26 = .ok (.aload_n 0, 1) := dk_42 (dk_at dksJ9_append_2_1 2 rfl rfl)
theorem dJ9_append_2_27 : decode cJ9_append_2 27 = .ok (.getfield 15, 3) := dk_180 0 15 (dk_at dksJ9_append_2_1 3 rfl rfl)
theorem dJ9_append_2_30 : decode cJ9_append_2 30 = .ok (.invokestatic 248, 3) := dk_184 0 248 (dk_at dksJ9_append_2_1 6 rfl rfl)
theorem dJ9_append_2_33 : decode cJ9_append_2 33 = .ok (.pop, 1) := dk_87 (dk_at dksJ9_append_2_1 9 rfl rfl)
theorem dJ9_append_2_34 : decode cJ9_append_2 34 = .ok (.goto 14, 3) := dk_167 0 14 (dk_at dksJ9_append_2_1 10 rfl rfl)
theorem dJ9_append_2_37 : decode cJ9_append_2 37 = .ok (.iload_n 1, 1) := dk_27 (dk_at dksJ9_append_2_1 13 rfl rfl)
theorem dJ9_append_2_38 : decode cJ9_append_2 38 = .ok (.iload_n 2, 1) := dk_28 (dk_at dksJ9_append_2_1 14 rfl rfl)
theorem dJ9_append_2_39 : decode cJ9_append_2 39 = .ok (.iload_n 3, 1) := dk_29 (dk_at dksJ9_append_2_1 15 rfl rfl)
theorem dJ9_append_2_40 : decode cJ9_append_2 40 = .ok (.aload_n 0, 1) := dk_42 (dk_at dksJ9_append_2_1 16 rfl rfl)
theorem dJ9_append_2_41 : decode cJ9_append_2 41 = .ok (.getfield 15, 3) := dk_180 0 15 (dk_at dksJ9_append_2_1 17 rfl rfl)
theorem dJ9_append_2_44 : decode cJ9_append_2 44 = .ok (.invokestatic 251, 3) := dk_184 0 251 (dk_at dksJ9_append_2_1 20 rfl rfl)
theorem dJ9_append_2_47 : decode cJ9_append_2 47 = .ok (.pop, 1) := dk_87 (dk_at dksJ9_append_2_1 23 rfl rfl)
theorem dJ9_append_2_48 : decode cJ9_append_2 48 = .ok (.aload_n 0, 1) := dk_42 (dk_at dksJ9_append_2_2 0 rfl rfl)
theorem dJ9_append_2_49 : decode cJ9_append_2 49 = .ok (.iload_n 3, 1) := dk_29 (dk_at dksJ9_append_2_2 1 rfl rfl)
theorem dJ9_append_2_50 : decode cJ9_append_2 50 = .ok (.putfield 79, 3) := dk_181 0 79 (dk_at dksJ9_append_2_2 2 rfl rfl)
theorem dJ9_append_2_53 : decode cJ9_append_2 53 = .ok (.aload_n 0, 1) := dk_42 (dk_at dksJ9_append_2_2 5 rfl rfl)
theorem dJ9_append_2_54 : decode cJ9_append_2 54 = .ok (.areturn, 1) := dk_176 (dk_at dksJ9_append_2_2 6 rfl rfl)
/-- java/lang/AbstractStringBuilder.append(I)Ljava/lang/AbstractStringBuilder; -/
def zb341 (G : zPg) (C : zO) (args : List Value) (Q : zQ) (Y : zY) (σ : zS) : Prop := ∃ (a0 : Nat) (x1 : Int32), args = [.ref a0, .int x1] ∧ (zgI σ (some a0) 8 3 (fun v1 => zcl C 434 [.int x1] Y σ (zqI (fun v7 s8 => zrc s8 (some a0) 8 (fun a13 => zcl C 333 [.ref a13, .int (v1 + v7)] Y s8 (zqV (fun s11 => zrc s11 (some a0) 8 (fun a20 => zcl C 335 [.ref a20] Y s11 (zqI (fun v17 s18 => zJ (fun  (s24 : zS) => zput s24 G.1 (some a0) 8 3 (.int (v1 + v7)) (fun s26 => Q (some (va_rf (some a0))) s26)) (fun (j25 : zS → Prop) => ((v17 = 0) → zgR s18 (some a0) 8 0 (fun v35 => zcl C 381 [.int x1, .int v1, .int (v1 + v7), va_rf v35] Y s18 (zqI (fun v41 s42 => j25 s42)))) ∧ ((¬ v17 = 0) → zgR s18 (some a0) 8 0 (fun v44 => zcl C 435 [.int x1, .int (v1 + v7), va_rf v44] Y s18 (zqI (fun v50 s51 => j25 s51)))))))))))))))
set_option maxHeartbeats 4000000 in
theorem wk341 {l : Launch} {g : zG} {d : Nat} {C : zO} (hG : zGk g) (hC : zSound l g d C) {args : List Value} {Q : zQ} {Y : zY} {σ : zS} (hw : zb341 (zpg g) C args Q Y σ) : zMet l g (d + 1) (⟨"java/lang/AbstractStringBuilder", "append", "(I)Ljava/lang/AbstractStringBuilder;"⟩, Cond.code ⟨"java/lang/AbstractStringBuilder", "append", "(I)Ljava/lang/AbstractStringBuilder;"⟩ prog_30_method_32_code 4 (Option.some (FieldType.object "java/lang/AbstractStringBuilder"))) args σ Q Y := by
  obtain ⟨a0, x1, rfl, hw⟩ := hw
  refine zof hG (by decide +kernel) [false, false] ⟨rfl, rfl, trivial⟩ (Nat.le_of_ble_eq_true rfl) (ls := [some (va_rf (some a0)), some (.int x1), none, none]) rfl ?_
  intro X hX hR hTb hd1 hd2 hl hg hnm
  subst hl
  subst hg
  have hd : zDep X d := ⟨hd1, hd2⟩
  refine z_aload_n hX dJ9_append_2_0 rfl (i := 0) rfl ?_
  obtain ⟨a2, f3, v1, r4, m5, e6, hw⟩ := hw
  refine z_get hX zc8 (k := 3) dJ9_append_2_1 (Nat.le_of_ble_eq_true rfl) (zlk hX q1115) r4 m5 e6 ?_
  refine z_istore_n hX dJ9_append_2_4 rfl (i := 2) (Nat.le_of_ble_eq_true rfl) rfl (ls2 := [some (va_rf (some a0)), some (.int x1), some (.int v1), none]) rfl ?_
  refine z_iload_n hX dJ9_append_2_5 rfl (i := 2) rfl ?_
  refine z_iload_n hX dJ9_append_2_6 rfl (i := 1) rfl ?_
  refine z_invS hX hd dJ9_append_2_7 (hC 434 _ zm434 _ _ _ _ hw) q1248 q1249 zh24 q1250 q154 zn434 rfl (Nat.le_of_ble_eq_true rfl) (st := [.int v1]) rfl (zcs8 (Nat.le_of_ble_eq_true rfl)) rfl (zkI (fun v7 s8 hw => ?_)) (zout hX hR hTb)
  refine z_iadd hX dJ9_append_2_10 ?_
  refine z_istore_n hX dJ9_append_2_11 rfl (i := 3) (Nat.le_of_ble_eq_true rfl) rfl (ls2 := [some (va_rf (some a0)), some (.int x1), some (.int v1), some (.int (v1 + v7))]) rfl ?_
  refine z_aload_n hX dJ9_append_2_12 rfl (i := 0) rfl ?_
  refine z_iload_n hX dJ9_append_2_13 rfl (i := 3) rfl ?_
  obtain ⟨a13, f14, r15, m16, hw⟩ := hw
  refine z_invVP hX hd r15 (ci := 8) rfl rfl m16 dJ9_append_2_14 (hC 333 _ zm333 _ _ _ _ hw) q1142 q1144 (z_selP hX (ci := 8) rfl q1143 q1144 zh15 q1165 rfl) zh15 q1145 q144 zn333 rfl (Nat.le_of_ble_eq_true rfl) (st := []) rfl (zcs8 (Nat.le_of_ble_eq_true rfl)) rfl (zkV (fun s11 hw => ?_)) (zout hX hR hTb)
  refine z_aload_n hX dJ9_append_2_17 rfl (i := 0) rfl ?_
  obtain ⟨a20, f21, r22, m23, hw⟩ := hw
  refine z_invV hX hd r22 (ci := 8) rfl rfl m23 dJ9_append_2_18 (hC 335 _ zm335 _ _ _ _ hw) q1162 q1163 q1165 zh15 q1166 q144 zn335 rfl (Nat.le_of_ble_eq_true rfl) (st := []) rfl (zcs8 (Nat.le_of_ble_eq_true rfl)) rfl (zkI (fun v17 s18 hw => ?_)) (zout hX hR hTb)
  refine zJ_w (P := fun (j : zS → Prop) => ∀  (s24 : zS), j  s24 → zW X s24 48 [some (va_rf (some a0)), none, none, some (.int (v1 + v7))] []) hw (fun  s24 hw => ?_) (fun j25 hj25 hw => ?_)
  · refine z_aload_n hX dJ9_append_2_48 rfl (i := 0) rfl ?_
    refine z_iload_n hX dJ9_append_2_49 rfl (i := 3) rfl ?_
    obtain ⟨a28, f29, r30, g31, m32, l33, hw⟩ := hw
    refine z_put hX zc8 (k := 3) dJ9_append_2_50 (Nat.le_of_ble_eq_true rfl) (zlk hX q1115) rfl rfl rfl r30 g31 m32 l33 (z_nm (fun s26 e27 => ?_))
    have hw := hw s26 e27
    refine z_aload_n hX dJ9_append_2_53 rfl (i := 0) rfl ?_
    exact z_areturn hX hR dJ9_append_2_54 (Or.inl ⟨_, rfl⟩) hw
  · refine z_if_eq hX dJ9_append_2_21 (tgt := 37) rfl (fun c34 => ?_) (fun c34 => ?_)
    · have hw := hw.1 c34
      refine z_iload_n hX dJ9_append_2_37 rfl (i := 1) rfl ?_
      refine z_iload_n hX dJ9_append_2_38 rfl (i := 2) rfl ?_
      refine z_iload_n hX dJ9_append_2_39 rfl (i := 3) rfl ?_
      refine z_aload_n hX dJ9_append_2_40 rfl (i := 0) rfl ?_
      obtain ⟨a36, f37, v35, r38, m39, e40, hw⟩ := hw
      refine z_get hX zc8 (k := 0) dJ9_append_2_41 (Nat.le_of_ble_eq_true rfl) (zlk hX q1111) r38 m39 e40 ?_
      refine z_invS hX hd dJ9_append_2_44 (hC 381 _ zm381 _ _ _ _ hw) q1258 q1259 zh18 q1260 q147 zn381 rfl (Nat.le_of_ble_eq_true rfl) (st := []) rfl (zcs8 (Nat.le_of_ble_eq_true rfl)) rfl (zkI (fun v41 s42 hw => ?_)) (zout hX hR hTb)
      refine z_pop hX dJ9_append_2_47 rfl ?_
      refine z_sub (ls' := [some (va_rf (some a0)), none, none, some (.int (v1 + v7))]) (zsS (zsN (zsN (zsS (zs0))))) ?_
      exact hj25  _ hw
    · have hw := hw.2 c34
      refine z_iload_n hX dJ9_append_2_24 rfl (i := 1) rfl ?_
      refine z_iload_n hX dJ9_append_2_25 rfl (i := 3) rfl ?_
      refine z_aload_n hX dJ9_append_2_26 rfl (i := 0) rfl ?_
      obtain ⟨a45, f46, v44, r47, m48, e49, hw⟩ := hw
      refine z_get hX zc8 (k := 0) dJ9_append_2_27 (Nat.le_of_ble_eq_true rfl) (zlk hX q1111) r47 m48 e49 ?_
      refine z_invS hX hd dJ9_append_2_30 (hC 435 _ zm435 _ _ _ _ hw) q1251 q1252 zh24 q1253 q154 zn435 rfl (Nat.le_of_ble_eq_true rfl) (st := []) rfl (zcs8 (Nat.le_of_ble_eq_true rfl)) rfl (zkI (fun v50 s51 hw => ?_)) (zout hX hR hTb)
      refine z_pop hX dJ9_append_2_33 rfl ?_
      refine z_goto hX dJ9_append_2_34 (tgt := 48) rfl ?_
      refine z_sub (ls' := [some (va_rf (some a0)), none, none, some (.int (v1 + v7))]) (zsS (zsN (zsN (zsS (zs0))))) ?_
      exact hj25  _ hw
abbrev cJ9_getValue : ByteArray := prog_30_method_64_code
def yJ9_getValue : MethodName := ⟨RJ9, "getValue", "()[B"⟩
theorem dJ9_getValue_0 : decode cJ9_getValue 0 = .ok (.aload_n 0, 1) := by decide +kernel
theorem dJ9_getValue_1 : decode cJ9_getValue 1 = .ok (.getfield 15, 3) := by decide +kernel
theorem dJ9_getValue_4 : decode cJ9_getValue 4 = .ok (.areturn, 1) := by decide +kernel
/-- java/lang/AbstractStringBuilder.getValue()[B -/
def zb342 (G : zPg) (C : zO) (args : List Value) (Q : zQ) (Y : zY) (σ : zS) : Prop := ∃ (a0 : Nat), args = [.ref a0] ∧ (zgR σ (some a0) 8 0 (fun v1 => Q (some (va_rf v1)) σ))
set_option maxHeartbeats 4000000 in
theorem wk342 {l : Launch} {g : zG} {d : Nat} {C : zO} (hG : zGk g) (hC : zSound l g d C) {args : List Value} {Q : zQ} {Y : zY} {σ : zS} (hw : zb342 (zpg g) C args Q Y σ) : zMet l g (d + 1) (⟨"java/lang/AbstractStringBuilder", "getValue", "()[B"⟩, Cond.code ⟨"java/lang/AbstractStringBuilder", "getValue", "()[B"⟩ prog_30_method_64_code 1 (Option.some (FieldType.array FieldType.byte))) args σ Q Y := by
  obtain ⟨a0, rfl, hw⟩ := hw
  refine zof hG (by decide +kernel) [false] ⟨rfl, trivial⟩ (Nat.le_of_ble_eq_true rfl) (ls := [some (va_rf (some a0))]) rfl ?_
  intro X hX hR hTb hd1 hd2 hl hg hnm
  subst hl
  subst hg
  have hd : zDep X d := ⟨hd1, hd2⟩
  refine z_aload_n hX dJ9_getValue_0 rfl (i := 0) rfl ?_
  obtain ⟨a2, f3, v1, r4, m5, e6, hw⟩ := hw
  refine z_get hX zc8 (k := 0) dJ9_getValue_1 (Nat.le_of_ble_eq_true rfl) (zlk hX q1111) r4 m5 e6 ?_
  exact z_areturn hX hR dJ9_getValue_4 (Or.inr ⟨_, rfl⟩) hw
abbrev cJ9_length : ByteArray := prog_30_method_6_code
def yJ9_length : MethodName := ⟨RJ9, "length", "()I"⟩
theorem dJ9_length_0 : decode cJ9_length 0 = .ok (.aload_n 0, 1) := by decide +kernel
theorem dJ9_length_1 : decode cJ9_length 1 = .ok (.getfield 79, 3) := by decide +kernel
theorem dJ9_length_4 : decode cJ9_length 4 = .ok (.ireturn, 1) := by decide +kernel
/-- java/lang/AbstractStringBuilder.length()I -/
def zb343 (G : zPg) (C : zO) (args : List Value) (Q : zQ) (Y : zY) (σ : zS) : Prop := ∃ (a0 : Nat), args = [.ref a0] ∧ (zgI σ (some a0) 8 3 (fun v1 => Q (some (.int v1)) σ))
set_option maxHeartbeats 4000000 in
theorem wk343 {l : Launch} {g : zG} {d : Nat} {C : zO} (hG : zGk g) (hC : zSound l g d C) {args : List Value} {Q : zQ} {Y : zY} {σ : zS} (hw : zb343 (zpg g) C args Q Y σ) : zMet l g (d + 1) (⟨"java/lang/AbstractStringBuilder", "length", "()I"⟩, Cond.code ⟨"java/lang/AbstractStringBuilder", "length", "()I"⟩ prog_30_method_6_code 1 (Option.some FieldType.int)) args σ Q Y := by
  obtain ⟨a0, rfl, hw⟩ := hw
  refine zof hG (by decide +kernel) [false] ⟨rfl, trivial⟩ (Nat.le_of_ble_eq_true rfl) (ls := [some (va_rf (some a0))]) rfl ?_
  intro X hX hR hTb hd1 hd2 hl hg hnm
  subst hl
  subst hg
  have hd : zDep X d := ⟨hd1, hd2⟩
  refine z_aload_n hX dJ9_length_0 rfl (i := 0) rfl ?_
  obtain ⟨a2, f3, v1, r4, m5, e6, hw⟩ := hw
  refine z_get hX zc8 (k := 3) dJ9_length_1 (Nat.le_of_ble_eq_true rfl) (zlk hX q1115) r4 m5 e6 ?_
  exact z_ireturn hX hR dJ9_length_4 rfl hw
abbrev cJ9_append_3 : ByteArray := prog_30_method_31_code
def yJ9_append_3 : MethodName := ⟨RJ9, "append", "(C)Ljava/lang/AbstractStringBuilder;"⟩
def dkwJ9_append_3_3 : List UInt8 := [181, 0, 79, 27, 184, 0, 197, 42, 176]
abbrev dktJ9_append_3_3 : List UInt8 := dkwJ9_append_3_3 ++ []
def dkwJ9_append_3_2 : List UInt8 := [182, 0, 83, 153, 0, 7, 42, 182, 0, 195, 42, 180, 0, 15, 42, 89, 180, 0, 79, 90, 4, 96]
abbrev dktJ9_append_3_2 : List UInt8 := dkwJ9_append_3_2 ++ dktJ9_append_3_3
def dkwJ9_append_3_1 : List UInt8 := [42, 180, 0, 15, 42, 89, 180, 0, 79, 90, 4, 96, 181, 0, 79, 27, 145, 84, 167, 0, 33, 42]
abbrev dktJ9_append_3_1 : List UInt8 := dkwJ9_append_3_1 ++ dktJ9_append_3_2
def dkwJ9_append_3_0 : List UInt8 := [42, 42, 180, 0, 79, 4, 96, 182, 0, 100, 42, 182, 0, 83, 153, 0, 31, 27, 184, 0, 191, 153, 0, 24]
abbrev dktJ9_append_3_0 : List UInt8 := dkwJ9_append_3_0 ++ dktJ9_append_3_1
theorem dksJ9_append_3_0 : cJ9_append_3.data.toList.drop 0 = dktJ9_append_3_0 := by decide +kernel
theorem dksJ9_append_3_1 : cJ9_append_3.data.toList.drop 24 = dktJ9_append_3_1 := dk_seg dksJ9_append_3_0 24 rfl rfl
theorem dksJ9_append_3_2 : cJ9_append_3.data.toList.drop 46 = dktJ9_append_3_2 := dk_seg dksJ9_append_3_1 22 rfl rfl
theorem dksJ9_append_3_3 : cJ9_append_3.data.toList.drop 68 = dktJ9_append_3_3 := dk_seg dksJ9_append_3_2 22 rfl rfl
theorem dJ9_append_3_0 : decode cJ9_append_3 0 = .ok (.aload_n 0, 1) := dk_42 (dk_at dksJ9_append_3_0 0 rfl rfl)
theorem dJ9_append_3_1 : decode cJ9_append_3 1 = .ok (.aload_n 0, 1) := dk_42 (dk_at dksJ9_append_3_0 1 rfl rfl)
theorem dJ9_append_3_2 : decode cJ9_append_3 2 = .ok (.getfield 79, 3) := dk_180 0 79 (dk_at dksJ9_append_3_0 2 rfl rfl)
theorem dJ9_append_3_5 : decode cJ9_append_3 5 = .ok (.iconst 1, 1) := dk_4 (dk_at dksJ9_append_3_0 5 rfl rfl)
theorem dJ9_append_3_6 : decode cJ9_append_3 6 = .ok (.iadd, 1) := dk_96 (dk_at dksJ9_append_3_0 6 rfl rfl)
theorem dJ9_append_3_7 : decode cJ9_append_3 7 = .ok (.invokevirtual 100, 3) := dk_182 0 100 (dk_at dksJ9_append_3_0 7 rfl rfl)
theorem dJ9_append_3_10 : decode cJ9_append_3 10 = .ok (.aload_n 0, 1) := dk_42 (dk_at dksJ9_append_3_0 10 rfl rfl)
theorem dJ9_append_3_11 : decode cJ9_append_3 11 = .ok (.invokevirtual 83, 3) := dk_182 0 83 (dk_at dksJ9_append_3_0 11 rfl rfl)
theorem dJ9_append_3_14 : decode cJ9_append_3 14 = .ok (.ifCond .eq 31, 3) := dk_153 0 31 (dk_at dksJ9_append_3_0 14 rfl rfl)
theorem dJ9_append_3_17 : decode cJ9_append_3 17 = .ok (.iload_n 1, 1) := dk_27 (dk_at dksJ9_append_3_0 17 rfl rfl)
theorem dJ9_append_3_18 : decode cJ9_append_3 18 = .ok (.invokestatic 191, 3) := dk_184 0 191 (dk_at dksJ9_append_3_0 18 rfl rfl)
theorem dJ9_append_3_21 : decode cJ9_append_3 21 = .ok (.ifCond .eq 24, 3) := dk_153 0 24 (dk_at dksJ9_append_3_0 21 rfl rfl)
theorem dJ9_append_3_24 : decode cJ9_append_3 24 = .ok (.aload_n 0, 1) := dk_42 (dk_at dksJ9_append_3_1 0 rfl rfl)
theorem dJ9_append_3_25 : decode cJ9_append_3 25 = .ok (.getfield 15, 3) := dk_180 0 15 (dk_at dksJ9_append_3_1 1 rfl rfl)
theorem dJ9_append_3_28 : decode cJ9_append_3 28 = .ok (.aload_n 0, 1) := dk_42 (dk_at dksJ9_append_3_1 4 rfl rfl)
theorem dJ9_append_3_29 : decode cJ9_append_3 29 = .ok (.dup, 1) := dk_89 (dk_at dksJ9_append_3_1 5 rfl rfl)
theorem dJ9_append_3_30 : decode cJ9_append_3 30 = .ok (.getfield 79, 3) := dk_180 0 79 (dk_at dksJ9_append_3_1 6 rfl rfl)
theorem dJ9_append_3_33 : decode cJ9_append_3 33 = .ok (.dup_x1, 1) := dk_90 (dk_at dksJ9_append_3_1 9 rfl rfl)
theorem dJ9_append_3_34 : decode cJ9_append_3 34 = .ok (.iconst 1, 1) := dk_4 (dk_at dksJ9_append_3_1 10 rfl rfl)
theorem dJ9_append_3_35 : decode cJ9_append_3 35 = .ok (.iadd, 1) := dk_96 (dk_at dksJ9_append_3_1 11 rfl rfl)
theorem dJ9_append_3_36 : decode cJ9_append_3 36 = .ok (.putfield 79, 3) := dk_181 0 79 (dk_at dksJ9_append_3_1 12 rfl rfl)
theorem dJ9_append_3_39 : decode cJ9_append_3 39 = .ok (.iload_n 1, 1) := dk_27 (dk_at dksJ9_append_3_1 15 rfl rfl)
theorem dJ9_append_3_40 : decode cJ9_append_3 40 = .ok (.i2b, 1) := dk_145 (dk_at dksJ9_append_3_1 16 rfl rfl)
theorem dJ9_append_3_41 : decode cJ9_append_3 41 = .ok (.bastore, 1) := dk_84 (dk_at dksJ9_append_3_1 17 rfl rfl)
theorem dJ9_append_3_42 : decode cJ9_append_3 42 = .ok (.goto 33, 3) := dk_167 0 33 (dk_at dksJ9_append_3_1 18 rfl rfl)
theorem dJ9_append_3_45 : decode cJ9_append_3 45 = .ok (.aload_n 0, 1) := dk_42 (dk_at dksJ9_append_3_1 21 rfl rfl)
theorem dJ9_append_3_46 : decode cJ9_append_3 46 = .ok (.invokevirtual 83, 3) := dk_182 0 83 (dk_at dksJ9_append_3_2 0 rfl rfl)
theorem dJ9_append_3_49 : decode cJ9_append_3 49 = .ok (.ifCond .eq 7, 3) := dk_153 0 7 (dk_at dksJ9_append_3_2 3 rfl rfl)
theorem dJ9_append_3_52 : decode cJ9_append_3 52 = .ok (.aload_n 0, 1) := dk_42 (dk_at dksJ9_append_3_2 6 rfl rfl)
theorem dJ9_append_3_53 : decode cJ9_append_3 53 = .ok (.invokevirtual 195, 3) := dk_182 0 195 (dk_at dksJ9_append_3_2 7 rfl rfl)
theorem dJ9_append_3_56 : decode cJ9_append_3 56 = .ok (.aload_n 0, 1) := dk_42 (dk_at dksJ9_append_3_2 10 rfl rfl)
theorem dJ9_append_3_57 : decode cJ9_append_3 57 = .ok (.getfield 15, 3) := dk_180 0 15 (dk_at dksJ9_append_3_2 11 rfl rfl)
theorem dJ9_append_3_60 : decode cJ9_append_3 60 = .ok (.aload_n 0, 1) := dk_42 (dk_at dksJ9_append_3_2 14 rfl rfl)
theorem dJ9_append_3_61 : decode cJ9_append_3 61 = .ok (.dup, 1) := dk_89 (dk_at dksJ9_append_3_2 15 rfl rfl)
theorem dJ9_append_3_62 : decode cJ9_append_3 62 = .ok (.getfield 79, 3) := dk_180 0 79 (dk_at dksJ9_append_3_2 16 rfl rfl)
theorem dJ9_append_3_65 : decode cJ9_append_3 65 = .ok (.dup_x1, 1) := dk_90 (dk_at dksJ9_append_3_2 19 rfl rfl)
theorem dJ9_append_3_66 : decode cJ9_append_3 66 = .ok (.iconst 1, 1) := dk_4 (dk_at dksJ9_append_3_2 20 rfl rfl)
theorem dJ9_append_3_67 : decode cJ9_append_3 67 = .ok (.iadd, 1) := dk_96 (dk_at dksJ9_append_3_2 21 rfl rfl)
theorem dJ9_append_3_68 : decode cJ9_append_3 68 = .ok (.putfield 79, 3) := dk_181 0 79 (dk_at dksJ9_append_3_3 0 rfl rfl)
theorem dJ9_append_3_71 : decode cJ9_append_3 71 = .ok (.iload_n 1, 1) := dk_27 (dk_at dksJ9_append_3_3 3 rfl rfl)
theorem dJ9_append_3_72 : decode cJ9_append_3 72 = .ok (.invokestatic 197, 3) := dk_184 0 197 (dk_at dksJ9_append_3_3 4 rfl rfl)
theorem dJ9_append_3_75 : decode cJ9_append_3 75 = .ok (.aload_n 0, 1) := dk_42 (dk_at dksJ9_append_3_3 7 rfl rfl)
theorem dJ9_append_3_76 : decode cJ9_append_3 76 = .ok (.areturn, 1) := dk_176 (dk_at dksJ9_append_3_3 8 rfl rfl)
/-- java/lang/AbstractStringBuilder.append(C)Ljava/lang/AbstractStringBuilder; -/
def zb344 (G : zPg) (C : zO) (args : List Value) (Q : zQ) (Y : zY) (σ : zS) : Prop := ∃ (a0 : Nat) (x1 : Int32), args = [.ref a0, .int x1] ∧ (zgI σ (some a0) 8 3 (fun v1 => zrc σ (some a0) 8 (fun a10 => zcl C 333 [.ref a10, .int (v1 + (1 : Int32))] Y σ (zqV (fun s8 => zrc s8 (some a0) 8 (fun a17 => zcl C 335 [.ref a17] Y s8 (zqI (fun v14 s15 => zJ (fun  (s21 : zS) => Q (some (va_rf (some a0))) s21) (fun (j22 : zS → Prop) => zJ (fun  (s23 : zS) => zrc s23 (some a0) 8 (fun a28 => zcl C 335 [.ref a28] Y s23 (zqI (fun v25 s26 => zJ (fun  (s32 : zS) => zgR s32 (some a0) 8 0 (fun v34 => zgI s32 (some a0) 8 3 (fun v40 => zput s32 G.1 (some a0) 8 3 (.int (v40 + (1 : Int32))) (fun s46 => zcl C 387 [va_rf v34, .int v40, .int x1] Y s46 (zqV (fun s55 => j22 s55)))))) (fun (j33 : zS → Prop) => ((v25 = 0) → j33 s26) ∧ ((¬ v25 = 0) → zrc s26 (some a0) 8 (fun a61 => zcl C 340 [.ref a61] Y s26 (zqV (fun s59 => j33 s59))))))))) (fun (j24 : zS → Prop) => ((v14 = 0) → j24 s15) ∧ ((¬ v14 = 0) → zcl C 417 [.int x1] Y s15 (zqI (fun v66 s67 => ((v66 = 0) → j24 s67) ∧ ((¬ v66 = 0) → zgR s67 (some a0) 8 0 (fun v70 => zgI s67 (some a0) 8 3 (fun v76 => zput s67 G.1 (some a0) 8 3 (.int (v76 + (1 : Int32))) (fun s82 => zsI s82 G.1 2 v70 v76 (vp_nar .byte x1.toInt8.toInt32) (fun s97 => j22 s97))))))))))))))))))
set_option maxHeartbeats 4000000 in
theorem wk344 {l : Launch} {g : zG} {d : Nat} {C : zO} (hG : zGk g) (hC : zSound l g d C) {args : List Value} {Q : zQ} {Y : zY} {σ : zS} (hw : zb344 (zpg g) C args Q Y σ) : zMet l g (d + 1) (⟨"java/lang/AbstractStringBuilder", "append", "(C)Ljava/lang/AbstractStringBuilder;"⟩, Cond.code ⟨"java/lang/AbstractStringBuilder", "append", "(C)Ljava/lang/AbstractStringBuilder;"⟩ prog_30_method_31_code 2 (Option.some (FieldType.object "java/lang/AbstractStringBuilder"))) args σ Q Y := by
  obtain ⟨a0, x1, rfl, hw⟩ := hw
  refine zof hG (by decide +kernel) [false, false] ⟨rfl, rfl, trivial⟩ (Nat.le_of_ble_eq_true rfl) (ls := [some (va_rf (some a0)), some (.int x1)]) rfl ?_
  intro X hX hR hTb hd1 hd2 hl hg hnm
  subst hl
  subst hg
  have hd : zDep X d := ⟨hd1, hd2⟩
  refine z_aload_n hX dJ9_append_3_0 rfl (i := 0) rfl ?_
  refine z_aload_n hX dJ9_append_3_1 rfl (i := 0) rfl ?_
  obtain ⟨a2, f3, v1, r4, m5, e6, hw⟩ := hw
  refine z_get hX zc8 (k := 3) dJ9_append_3_2 (Nat.le_of_ble_eq_true rfl) (zlk hX q1115) r4 m5 e6 ?_
  refine z_iconst hX (v := (1 : Int32)) dJ9_append_3_5 (by decide) ?_
  refine z_iadd hX dJ9_append_3_6 ?_
  obtain ⟨a10, f11, r12, m13, hw⟩ := hw
  refine z_invVP hX hd r12 (ci := 8) rfl rfl m13 dJ9_append_3_7 (hC 333 _ zm333 _ _ _ _ hw) q1142 q1144 (z_selP hX (ci := 8) rfl q1143 q1144 zh15 q1165 rfl) zh15 q1145 q144 zn333 rfl (Nat.le_of_ble_eq_true rfl) (st := []) rfl (zcs8 (Nat.le_of_ble_eq_true rfl)) rfl (zkV (fun s8 hw => ?_)) (zout hX hR hTb)
  refine z_aload_n hX dJ9_append_3_10 rfl (i := 0) rfl ?_
  obtain ⟨a17, f18, r19, m20, hw⟩ := hw
  refine z_invV hX hd r19 (ci := 8) rfl rfl m20 dJ9_append_3_11 (hC 335 _ zm335 _ _ _ _ hw) q1162 q1163 q1165 zh15 q1166 q144 zn335 rfl (Nat.le_of_ble_eq_true rfl) (st := []) rfl (zcs8 (Nat.le_of_ble_eq_true rfl)) rfl (zkI (fun v14 s15 hw => ?_)) (zout hX hR hTb)
  refine zJ_w (P := fun (j : zS → Prop) => ∀  (s21 : zS), j  s21 → zW X s21 75 [some (va_rf (some a0)), none] []) hw (fun  s21 hw => ?_) (fun j22 hj22 hw => ?_)
  · refine z_aload_n hX dJ9_append_3_75 rfl (i := 0) rfl ?_
    exact z_areturn hX hR dJ9_append_3_76 (Or.inl ⟨_, rfl⟩) hw
  · refine zJ_w (P := fun (j : zS → Prop) => ∀  (s23 : zS), j  s23 → zW X s23 45 [some (va_rf (some a0)), some (.int x1)] []) hw (fun  s23 hw => ?_) (fun j24 hj24 hw => ?_)
    · refine z_aload_n hX dJ9_append_3_45 rfl (i := 0) rfl ?_
      obtain ⟨a28, f29, r30, m31, hw⟩ := hw
      refine z_invV hX hd r30 (ci := 8) rfl rfl m31 dJ9_append_3_46 (hC 335 _ zm335 _ _ _ _ hw) q1162 q1163 q1165 zh15 q1166 q144 zn335 rfl (Nat.le_of_ble_eq_true rfl) (st := []) rfl (zcs8 (Nat.le_of_ble_eq_true rfl)) rfl (zkI (fun v25 s26 hw => ?_)) (zout hX hR hTb)
      refine zJ_w (P := fun (j : zS → Prop) => ∀  (s32 : zS), j  s32 → zW X s32 56 [some (va_rf (some a0)), some (.int x1)] []) hw (fun  s32 hw => ?_) (fun j33 hj33 hw => ?_)
      · refine z_aload_n hX dJ9_append_3_56 rfl (i := 0) rfl ?_
        obtain ⟨a35, f36, v34, r37, m38, e39, hw⟩ := hw
        refine z_get hX zc8 (k := 0) dJ9_append_3_57 (Nat.le_of_ble_eq_true rfl) (zlk hX q1111) r37 m38 e39 ?_
        refine z_aload_n hX dJ9_append_3_60 rfl (i := 0) rfl ?_
        refine z_dup hX dJ9_append_3_61 (zc_rf _) ?_
        obtain ⟨a41, f42, v40, r43, m44, e45, hw⟩ := hw
        refine z_get hX zc8 (k := 3) dJ9_append_3_62 (Nat.le_of_ble_eq_true rfl) (zlk hX q1115) r43 m44 e45 ?_
        refine z_dup_x1 hX dJ9_append_3_65 rfl (zc_rf _) ?_
        refine z_iconst hX (v := (1 : Int32)) dJ9_append_3_66 (by decide) ?_
        refine z_iadd hX dJ9_append_3_67 ?_
        obtain ⟨a48, f49, r50, g51, m52, l53, hw⟩ := hw
        refine z_put hX zc8 (k := 3) dJ9_append_3_68 (Nat.le_of_ble_eq_true rfl) (zlk hX q1115) rfl rfl rfl r50 g51 m52 l53 (z_nm (fun s46 e47 => ?_))
        have hw := hw s46 e47
        refine z_iload_n hX dJ9_append_3_71 rfl (i := 1) rfl ?_
        refine z_invS hX hd dJ9_append_3_72 (hC 387 _ zm387 _ _ _ _ hw) q1359 q1360 zh18 q1361 q147 zn387 rfl (Nat.le_of_ble_eq_true rfl) (st := []) rfl (zcs8 (Nat.le_of_ble_eq_true rfl)) rfl (zkV (fun s55 hw => ?_)) (zout hX hR hTb)
        refine z_sub (ls' := [some (va_rf (some a0)), none]) (zsS (zsN (zs0))) ?_
        exact hj22  _ hw
      · refine z_if_eq hX dJ9_append_3_49 (tgt := 56) rfl (fun c57 => ?_) (fun c57 => ?_)
        · have hw := hw.1 c57
          exact hj33  _ hw
        · have hw := hw.2 c57
          refine z_aload_n hX dJ9_append_3_52 rfl (i := 0) rfl ?_
          obtain ⟨a61, f62, r63, m64, hw⟩ := hw
          refine z_invVP hX hd r63 (ci := 8) rfl rfl m64 dJ9_append_3_53 (hC 340 _ zm340 _ _ _ _ hw) q1216 q1218 (z_selP hX (ci := 8) rfl q1217 q1218 zh15 q1165 rfl) zh15 q1219 q144 zn340 rfl (Nat.le_of_ble_eq_true rfl) (st := []) rfl (zcs8 (Nat.le_of_ble_eq_true rfl)) rfl (zkV (fun s59 hw => ?_)) (zout hX hR hTb)
          exact hj33  _ hw
    · refine z_if_eq hX dJ9_append_3_14 (tgt := 45) rfl (fun c65 => ?_) (fun c65 => ?_)
      · have hw := hw.1 c65
        exact hj24  _ hw
      · have hw := hw.2 c65
        refine z_iload_n hX dJ9_append_3_17 rfl (i := 1) rfl ?_
        refine z_invS hX hd dJ9_append_3_18 (hC 417 _ zm417 _ _ _ _ hw) q1356 q1357 zh21 q1358 q151 zn417 rfl (Nat.le_of_ble_eq_true rfl) (st := []) rfl (zcs8 (Nat.le_of_ble_eq_true rfl)) rfl (zkI (fun v66 s67 hw => ?_)) (zout hX hR hTb)
        refine z_if_eq hX dJ9_append_3_21 (tgt := 45) rfl (fun c69 => ?_) (fun c69 => ?_)
        · have hw := hw.1 c69
          exact hj24  _ hw
        · have hw := hw.2 c69
          refine z_aload_n hX dJ9_append_3_24 rfl (i := 0) rfl ?_
          obtain ⟨a71, f72, v70, r73, m74, e75, hw⟩ := hw
          refine z_get hX zc8 (k := 0) dJ9_append_3_25 (Nat.le_of_ble_eq_true rfl) (zlk hX q1111) r73 m74 e75 ?_
          refine z_aload_n hX dJ9_append_3_28 rfl (i := 0) rfl ?_
          refine z_dup hX dJ9_append_3_29 (zc_rf _) ?_
          obtain ⟨a77, f78, v76, r79, m80, e81, hw⟩ := hw
          refine z_get hX zc8 (k := 3) dJ9_append_3_30 (Nat.le_of_ble_eq_true rfl) (zlk hX q1115) r79 m80 e81 ?_
          refine z_dup_x1 hX dJ9_append_3_33 rfl (zc_rf _) ?_
          refine z_iconst hX (v := (1 : Int32)) dJ9_append_3_34 (by decide) ?_
          refine z_iadd hX dJ9_append_3_35 ?_
          obtain ⟨a84, f85, r86, g87, m88, l89, hw⟩ := hw
          refine z_put hX zc8 (k := 3) dJ9_append_3_36 (Nat.le_of_ble_eq_true rfl) (zlk hX q1115) rfl rfl rfl r86 g87 m88 l89 (z_nm (fun s82 e83 => ?_))
          have hw := hw s82 e83
          refine z_iload_n hX dJ9_append_3_39 rfl (i := 1) rfl ?_
          refine z_i2b hX dJ9_append_3_40 ?_
          obtain ⟨a90, n91, f92, r93, g94, m95, i96, hw⟩ := hw
          refine z_bast hX dJ9_append_3_41 r93 g94 m95 i96 (z_nm (fun s97 e98 => ?_))
          have hw := hw s97 e98
          refine z_goto hX dJ9_append_3_42 (tgt := 75) rfl ?_
          refine z_sub (ls' := [some (va_rf (some a0)), none]) (zsS (zsN (zs0))) ?_
          exact hj22  _ hw
abbrev cJ9_compareTo : ByteArray := prog_30_method_5_code
def yJ9_compareTo : MethodName := ⟨RJ9, "compareTo", "(Ljava/lang/AbstractStringBuilder;)I"⟩
def dkwJ9_compareTo_4 : List UInt8 := [184, 0, 97, 172]
abbrev dktJ9_compareTo_4 : List UInt8 := dkwJ9_compareTo_4 ++ []
def dkwJ9_compareTo_3 : List UInt8 := [182, 0, 83, 153, 0, 15, 44, 45, 21, 4, 21, 5, 184, 0, 94, 167, 0, 12, 44, 45, 21, 4, 21, 5]
abbrev dktJ9_compareTo_3 : List UInt8 := dkwJ9_compareTo_3 ++ dktJ9_compareTo_4
def dkwJ9_compareTo_2 : List UInt8 := [45, 21, 4, 21, 5, 184, 0, 87, 167, 0, 12, 44, 45, 21, 4, 21, 5, 184, 0, 93, 172, 42]
abbrev dktJ9_compareTo_2 : List UInt8 := dkwJ9_compareTo_2 ++ dktJ9_compareTo_3
def dkwJ9_compareTo_1 : List UInt8 := [180, 0, 79, 54, 5, 42, 180, 0, 22, 43, 180, 0, 22, 160, 0, 32, 42, 182, 0, 83, 153, 0, 15, 44]
abbrev dktJ9_compareTo_1 : List UInt8 := dkwJ9_compareTo_1 ++ dktJ9_compareTo_2
def dkwJ9_compareTo_0 : List UInt8 := [42, 43, 166, 0, 5, 3, 172, 42, 180, 0, 15, 77, 43, 180, 0, 15, 78, 42, 180, 0, 79, 54, 4, 43]
abbrev dktJ9_compareTo_0 : List UInt8 := dkwJ9_compareTo_0 ++ dktJ9_compareTo_1
theorem dksJ9_compareTo_0 : cJ9_compareTo.data.toList.drop 0 = dktJ9_compareTo_0 := by decide +kernel
theorem dksJ9_compareTo_1 : cJ9_compareTo.data.toList.drop 24 = dktJ9_compareTo_1 := dk_seg dksJ9_compareTo_0 24 rfl rfl
theorem dksJ9_compareTo_2 : cJ9_compareTo.data.toList.drop 48 = dktJ9_compareTo_2 := dk_seg dksJ9_compareTo_1 24 rfl rfl
theorem dksJ9_compareTo_3 : cJ9_compareTo.data.toList.drop 70 = dktJ9_compareTo_3 := dk_seg dksJ9_compareTo_2 22 rfl rfl
theorem dksJ9_compareTo_4 : cJ9_compareTo.data.toList.drop 94 = dktJ9_compareTo_4 := dk_seg dksJ9_compareTo_3 24 rfl rfl
theorem dJ9_compareTo_0 : decode cJ9_compareTo 0 = .ok (.aload_n 0, 1) := dk_42 (dk_at dksJ9_compareTo_0 0 rfl rfl)
theorem dJ9_compareTo_1 : decode cJ9_compareTo 1 = .ok (.aload_n 1, 1) := dk_43 (dk_at dksJ9_compareTo_0 1 rfl rfl)
theorem dJ9_compareTo_2 : decode cJ9_compareTo 2 = .ok (.if_acmp .ne 5, 3) := dk_166 0 5 (dk_at dksJ9_compareTo_0 2 rfl rfl)
theorem dJ9_compareTo_5 : decode cJ9_compareTo 5 = .ok (.iconst 0, 1) := dk_3 (dk_at dksJ9_compareTo_0 5 rfl rfl)
theorem dJ9_compareTo_6 : decode cJ9_compareTo 6 = .ok (.ireturn, 1) := dk_172 (dk_at dksJ9_compareTo_0 6 rfl rfl)
theorem dJ9_compareTo_7 : decode cJ9_compareTo 7 = .ok (.aload_n 0, 1) := dk_42 (dk_at dksJ9_compareTo_0 7 rfl rfl)
theorem dJ9_compareTo_8 : decode cJ9_compareTo 8 = .ok (.getfield 15, 3) := dk_180 0 15 (dk_at dksJ9_compareTo_0 8 rfl rfl)
theorem dJ9_compareTo_11 : decode cJ9_compareTo 11 = .ok (.astore_n 2, 1) := dk_77 (dk_at dksJ9_compareTo_0 11 rfl rfl)
theorem dJ9_compareTo_12 : decode cJ9_compareTo 12 = .ok (.aload_n 1, 1) := dk_43 (dk_at dksJ9_compareTo_0 12 rfl rfl)
theorem dJ9_compareTo_13 : decode cJ9_compareTo 13 = .ok (.getfield 15, 3) := dk_180 0 15 (dk_at dksJ9_compareTo_0 13 rfl rfl)
theorem dJ9_compareTo_16 : decode cJ9_compareTo 16 = .ok (.astore_n 3, 1) := dk_78 (dk_at dksJ9_compareTo_0 16 rfl rfl)
theorem dJ9_compareTo_17 : decode cJ9_compareTo 17 = .ok (.aload_n 0, 1) := dk_42 (dk_at dksJ9_compareTo_0 17 rfl rfl)
theorem dJ9_compareTo_18 : decode cJ9_compareTo 18 = .ok (.getfield 79, 3) := dk_180 0 79 (dk_at dksJ9_compareTo_0 18 rfl rfl)
theorem dJ9_compareTo_21 : decode cJ9_compareTo 21 = .ok (.istore 4, 2) := dk_54 4 (dk_at dksJ9_compareTo_0 21 rfl rfl)
theorem dJ9_compareTo_23 : decode cJ9_compareTo 23 = .ok (.aload_n 1, 1) := dk_43 (dk_at dksJ9_compareTo_0 23 rfl rfl)
theorem dJ9_compareTo_24 : decode cJ9_compareTo 24 = .ok (.getfield 79, 3) := dk_180 0 79 (dk_at dksJ9_compareTo_1 0 rfl rfl)
theorem dJ9_compareTo_27 : decode cJ9_compareTo 27 = .ok (.istore 5, 2) := dk_54 5 (dk_at dksJ9_compareTo_1 3 rfl rfl)
theorem dJ9_compareTo_29 : decode cJ9_compareTo 29 = .ok (.aload_n 0, 1) := dk_42 (dk_at dksJ9_compareTo_1 5 rfl rfl)
theorem dJ9_compareTo_30 : decode cJ9_compareTo 30 = .ok (.getfield 22, 3) := dk_180 0 22 (dk_at dksJ9_compareTo_1 6 rfl rfl)
theorem dJ9_compareTo_33 : decode cJ9_compareTo 33 = .ok (.aload_n 1, 1) := dk_43 (dk_at dksJ9_compareTo_1 9 rfl rfl)
theorem dJ9_compareTo_34 : decode cJ9_compareTo 34 = .ok (.getfield 22, 3) := dk_180 0 22 (dk_at dksJ9_compareTo_1 10 rfl rfl)
theorem dJ9_compareTo_37 : decode cJ9_compareTo 37 = .ok (.if_icmp .ne 32, 3) := dk_160 0 32 (dk_at dksJ9_compareTo_1 13 rfl rfl)
theorem dJ9_compareTo_40 : decode cJ9_compareTo 40 = .ok (.aload_n 0, 1) := dk_42 (dk_at dksJ9_compareTo_1 16 rfl rfl)
theorem dJ9_compareTo_41 : decode cJ9_compareTo 41 = .ok (.invokevirtual 83, 3) := dk_182 0 83 (dk_at dksJ9_compareTo_1 17 rfl rfl)
theorem dJ9_compareTo_44 : decode cJ9_compareTo 44 = .ok (.ifCond .eq 15, 3) := dk_153 0 15 (dk_at dksJ9_compareTo_1 20 rfl rfl)
theorem dJ9_compareTo_47 : decode cJ9_compareTo 47 = .ok (.aload_n 2, 1) := dk_44 (dk_at dksJ9_compareTo_1 23 rfl rfl)
theorem dJ9_compareTo_48 : decode cJ9_compareTo 48 = .ok (.aload_n 3, 1) := dk_45 (dk_at dksJ9_compareTo_2 0 rfl rfl)
theorem dJ9_compareTo_49 : decode cJ9_compareTo 49 = .ok (.iload 4, 2) := dk_21 4 (dk_at dksJ9_compareTo_2 1 rfl rfl)
theorem dJ9_compareTo_51 : decode cJ9_compareTo 51 = .ok (.iload 5, 2) := dk_21 5 (dk_at dksJ9_compareTo_2 3 rfl rfl)
theorem dJ9_compareTo_53 : decode cJ9_compareTo 53 = .ok (.invokestatic 87, 3) := dk_184 0 87 (dk_at dksJ9_compareTo_2 5 rfl rfl)
theorem dJ9_compareTo_56 : decode cJ9_compareTo 56 = .ok (.goto 12, 3) := dk_167 0 12 (dk_at dksJ9_compareTo_2 8 rfl rfl)
theorem dJ9_compareTo_59 : decode cJ9_compareTo 59 = .ok (.aload_n 2, 1) := dk_44 (dk_at dksJ9_compareTo_2 11 rfl rfl)
theorem dJ9_compareTo_60 : decode cJ9_compareTo 60 = .ok (.aload_n 3, 1) := dk_45 (dk_at dksJ9_compareTo_2 12 rfl rfl)
theorem dJ9_compareTo_61 : decode cJ9_compareTo 61 = .ok (.iload 4, 2) := dk_21 4 (dk_at dksJ9_compareTo_2 13 rfl rfl)
theorem dJ9_compareTo_63 : decode cJ9_compareTo 63 = .ok (.iload 5, 2) := dk_21 5 (dk_at dksJ9_compareTo_2 15 rfl rfl)
theorem dJ9_compareTo_65 : decode cJ9_compareTo 65 = .ok (.invokestatic 93, 3) := dk_184 0 93 (dk_at dksJ9_compareTo_2 17 rfl rfl)
theorem dJ9_compareTo_68 : decode cJ9_compareTo 68 = .ok (.ireturn, 1) := dk_172 (dk_at dksJ9_compareTo_2 20 rfl rfl)
theorem dJ9_compareTo_69 : decode cJ9_compareTo 69 = .ok (.aload_n 0, 1) := dk_42 (dk_at dksJ9_compareTo_2 21 rfl rfl)
theorem dJ9_compareTo_70 : decode cJ9_compareTo 70 = .ok (.invokevirtual 83, 3) := dk_182 0 83 (dk_at dksJ9_compareTo_3 0 rfl rfl)
theorem dJ9_compareTo_73 : decode cJ9_compareTo 73 = .ok (.ifCond .eq 15, 3) := dk_153 0 15 (dk_at dksJ9_compareTo_3 3 rfl rfl)
theorem dJ9_compareTo_76 : decode cJ9_compareTo 76 = .ok (.aload_n 2, 1) := dk_44 (dk_at dksJ9_compareTo_3 6 rfl rfl)
theorem dJ9_compareTo_77 : decode cJ9_compareTo 77 = .ok (.aload_n 3, 1) := dk_45 (dk_at dksJ9_compareTo_3 7 rfl rfl)
theorem dJ9_compareTo_78 : decode cJ9_compareTo 78 = .ok (.iload 4, 2) := dk_21 4 (dk_at dksJ9_compareTo_3 8 rfl rfl)
theorem dJ9_compareTo_80 : decode cJ9_compareTo 80 = .ok (.iload 5, 2) := dk_21 5 (dk_at dksJ9_compareTo_3 10 rfl rfl)
theorem dJ9_compareTo_82 : decode cJ9_compareTo 82 = .ok (.invokestatic 94, 3) := dk_184 0 94 (dk_at dksJ9_compareTo_3 12 rfl rfl)
theorem dJ9_compareTo_85 : decode cJ9_compareTo 85 = .ok (.goto 12, 3) := dk_167 0 12 (dk_at dksJ9_compareTo_3 15 rfl rfl)
theorem dJ9_compareTo_88 : decode cJ9_compareTo 88 = .ok (.aload_n 2, 1) := dk_44 (dk_at dksJ9_compareTo_3 18 rfl rfl)
theorem dJ9_compareTo_89 : decode cJ9_compareTo 89 = .ok (.aload_n 3, 1) := dk_45 (dk_at dksJ9_compareTo_3 19 rfl rfl)
theorem dJ9_compareTo_90 : decode cJ9_compareTo 90 = .ok (.iload 4, 2) := dk_21 4 (dk_at dksJ9_compareTo_3 20 rfl rfl)
theorem dJ9_compareTo_92 : decode cJ9_compareTo 92 = .ok (.iload 5, 2) := dk_21 5 (dk_at dksJ9_compareTo_3 22 rfl rfl)
theorem dJ9_compareTo_94 : decode cJ9_compareTo 94 = .ok (.invokestatic 97, 3) := dk_184 0 97 (dk_at dksJ9_compareTo_4 0 rfl rfl)
theorem dJ9_compareTo_97 : decode cJ9_compareTo 97 = .ok (.ireturn, 1) := dk_172 (dk_at dksJ9_compareTo_4 3 rfl rfl)
/-- java/lang/AbstractStringBuilder.compareTo(Ljava/lang/AbstractStringBuilder;)I -/
def zb345 (G : zPg) (C : zO) (args : List Value) (Q : zQ) (Y : zY) (σ : zS) : Prop := ∃ (a0 : Nat) (x1 : Option Nat), args = [.ref a0, va_rf x1] ∧ (((¬ (some a0) = x1) → zgR σ (some a0) 8 0 (fun v2 => zgR σ x1 8 0 (fun v8 => zgI σ (some a0) 8 3 (fun v14 => zgI σ x1 8 3 (fun v20 => zgI σ (some a0) 8 1 (fun v26 => zgI σ x1 8 1 (fun v32 => ((¬ v26 = v32) → zrc σ (some a0) 8 (fun a42 => zcl C 335 [.ref a42] Y σ (zqI (fun v39 s40 => zJ (fun (p46 : Int32) (s47 : zS) => Q (some (.int p46)) s47) (fun (j48 : Int32 → zS → Prop) => ((v39 = 0) → zcl C 393 [va_rf v2, va_rf v8, .int v14, .int v20] Y s40 (zqI (fun v50 s51 => j48 v50 s51))) ∧ ((¬ v39 = 0) → zcl C 425 [va_rf v2, va_rf v8, .int v14, .int v20] Y s40 (zqI (fun v53 s54 => j48 v53 s54)))))))) ∧ ((v26 = v32) → zrc σ (some a0) 8 (fun a59 => zcl C 335 [.ref a59] Y σ (zqI (fun v56 s57 => zJ (fun (p63 : Int32) (s64 : zS) => Q (some (.int p63)) s64) (fun (j65 : Int32 → zS → Prop) => ((v56 = 0) → zcl C 391 [va_rf v2, va_rf v8, .int v14, .int v20] Y s57 (zqI (fun v67 s68 => j65 v67 s68))) ∧ ((¬ v56 = 0) → zcl C 420 [va_rf v2, va_rf v8, .int v14, .int v20] Y s57 (zqI (fun v70 s71 => j65 v70 s71))))))))))))))) ∧ (((some a0) = x1) → Q (some (.int (0 : Int32))) σ))
set_option maxHeartbeats 4000000 in
theorem wk345 {l : Launch} {g : zG} {d : Nat} {C : zO} (hG : zGk g) (hC : zSound l g d C) {args : List Value} {Q : zQ} {Y : zY} {σ : zS} (hw : zb345 (zpg g) C args Q Y σ) : zMet l g (d + 1) (⟨"java/lang/AbstractStringBuilder", "compareTo", "(Ljava/lang/AbstractStringBuilder;)I"⟩, Cond.code ⟨"java/lang/AbstractStringBuilder", "compareTo", "(Ljava/lang/AbstractStringBuilder;)I"⟩ prog_30_method_5_code 6 (Option.some FieldType.int)) args σ Q Y := by
  obtain ⟨a0, x1, rfl, hw⟩ := hw
  refine zof hG (by decide +kernel) [false, false] ⟨rfl, (zc_rf _), trivial⟩ (Nat.le_of_ble_eq_true rfl) (ls := [some (va_rf (some a0)), some (va_rf x1), none, none, none, none]) rfl ?_
  intro X hX hR hTb hd1 hd2 hl hg hnm
  subst hl
  subst hg
  have hd : zDep X d := ⟨hd1, hd2⟩
  refine z_aload_n hX dJ9_compareTo_0 rfl (i := 0) rfl ?_
  refine z_aload_n hX dJ9_compareTo_1 rfl (i := 1) rfl ?_
  refine z_acmp_ne hX dJ9_compareTo_2 (tgt := 7) rfl (fun c1 => ?_) (fun c1 => ?_)
  · have hw := hw.1 c1
    refine z_aload_n hX dJ9_compareTo_7 rfl (i := 0) rfl ?_
    obtain ⟨a3, f4, v2, r5, m6, e7, hw⟩ := hw
    refine z_get hX zc8 (k := 0) dJ9_compareTo_8 (Nat.le_of_ble_eq_true rfl) (zlk hX q1111) r5 m6 e7 ?_
    refine z_astore_n hX dJ9_compareTo_11 rfl (i := 2) (Nat.le_of_ble_eq_true rfl) (zc_rf _) (ls2 := [some (va_rf (some a0)), some (va_rf x1), some (va_rf v2), none, none, none]) rfl ?_
    refine z_aload_n hX dJ9_compareTo_12 rfl (i := 1) rfl ?_
    obtain ⟨a9, f10, v8, r11, m12, e13, hw⟩ := hw
    refine z_get hX zc8 (k := 0) dJ9_compareTo_13 (Nat.le_of_ble_eq_true rfl) (zlk hX q1111) r11 m12 e13 ?_
    refine z_astore_n hX dJ9_compareTo_16 rfl (i := 3) (Nat.le_of_ble_eq_true rfl) (zc_rf _) (ls2 := [some (va_rf (some a0)), some (va_rf x1), some (va_rf v2), some (va_rf v8), none, none]) rfl ?_
    refine z_aload_n hX dJ9_compareTo_17 rfl (i := 0) rfl ?_
    obtain ⟨a15, f16, v14, r17, m18, e19, hw⟩ := hw
    refine z_get hX zc8 (k := 3) dJ9_compareTo_18 (Nat.le_of_ble_eq_true rfl) (zlk hX q1115) r17 m18 e19 ?_
    refine z_istore hX dJ9_compareTo_21 (i := 4) (Nat.le_of_ble_eq_true rfl) (zc_rf _) (ls2 := [some (va_rf (some a0)), some (va_rf x1), some (va_rf v2), some (va_rf v8), some (.int v14), none]) rfl ?_
    refine z_aload_n hX dJ9_compareTo_23 rfl (i := 1) rfl ?_
    obtain ⟨a21, f22, v20, r23, m24, e25, hw⟩ := hw
    refine z_get hX zc8 (k := 3) dJ9_compareTo_24 (Nat.le_of_ble_eq_true rfl) (zlk hX q1115) r23 m24 e25 ?_
    refine z_istore hX dJ9_compareTo_27 (i := 5) (Nat.le_of_ble_eq_true rfl) rfl (ls2 := [some (va_rf (some a0)), some (va_rf x1), some (va_rf v2), some (va_rf v8), some (.int v14), some (.int v20)]) rfl ?_
    refine z_aload_n hX dJ9_compareTo_29 rfl (i := 0) rfl ?_
    obtain ⟨a27, f28, v26, r29, m30, e31, hw⟩ := hw
    refine z_get hX zc8 (k := 1) dJ9_compareTo_30 (Nat.le_of_ble_eq_true rfl) (zlk hX q1112) r29 m30 e31 ?_
    refine z_aload_n hX dJ9_compareTo_33 rfl (i := 1) rfl ?_
    obtain ⟨a33, f34, v32, r35, m36, e37, hw⟩ := hw
    refine z_get hX zc8 (k := 1) dJ9_compareTo_34 (Nat.le_of_ble_eq_true rfl) (zlk hX q1112) r35 m36 e37 ?_
    refine z_icmp_ne hX dJ9_compareTo_37 (tgt := 69) rfl (fun c38 => ?_) (fun c38 => ?_)
    · have hw := hw.1 c38
      refine z_aload_n hX dJ9_compareTo_69 rfl (i := 0) rfl ?_
      obtain ⟨a42, f43, r44, m45, hw⟩ := hw
      refine z_invV hX hd r44 (ci := 8) rfl rfl m45 dJ9_compareTo_70 (hC 335 _ zm335 _ _ _ _ hw) q1162 q1163 q1165 zh15 q1166 q144 zn335 rfl (Nat.le_of_ble_eq_true rfl) (st := []) rfl (zcs8 (Nat.le_of_ble_eq_true rfl)) rfl (zkI (fun v39 s40 hw => ?_)) (zout hX hR hTb)
      refine zJ_w (P := fun (j : Int32 → zS → Prop) => ∀ (p46 : Int32) (s47 : zS), j p46 s47 → zW X s47 97 [none, none, none, none, none, none] [.int p46]) hw (fun p46 s47 hw => ?_) (fun j48 hj48 hw => ?_)
      · exact z_ireturn hX hR dJ9_compareTo_97 rfl hw
      · refine z_if_eq hX dJ9_compareTo_73 (tgt := 88) rfl (fun c49 => ?_) (fun c49 => ?_)
        · have hw := hw.1 c49
          refine z_aload_n hX dJ9_compareTo_88 rfl (i := 2) rfl ?_
          refine z_aload_n hX dJ9_compareTo_89 rfl (i := 3) rfl ?_
          refine z_iload hX dJ9_compareTo_90 (i := 4) rfl ?_
          refine z_iload hX dJ9_compareTo_92 (i := 5) rfl ?_
          refine z_invS hX hd dJ9_compareTo_94 (hC 393 _ zm393 _ _ _ _ hw) q1998 q1999 zh18 q2000 q147 zn393 rfl (Nat.le_of_ble_eq_true rfl) (st := []) rfl (zcs8 (Nat.le_of_ble_eq_true rfl)) rfl (zkI (fun v50 s51 hw => ?_)) (zout hX hR hTb)
          refine z_sub (ls' := [none, none, none, none, none, none]) (zsN (zsN (zsN (zsN (zsN (zsN (zs0))))))) ?_
          exact hj48 _ _ hw
        · have hw := hw.2 c49
          refine z_aload_n hX dJ9_compareTo_76 rfl (i := 2) rfl ?_
          refine z_aload_n hX dJ9_compareTo_77 rfl (i := 3) rfl ?_
          refine z_iload hX dJ9_compareTo_78 (i := 4) rfl ?_
          refine z_iload hX dJ9_compareTo_80 (i := 5) rfl ?_
          refine z_invS hX hd dJ9_compareTo_82 (hC 425 _ zm425 _ _ _ _ hw) q1994 q1995 zh21 q1996 q151 zn425 rfl (Nat.le_of_ble_eq_true rfl) (st := []) rfl (zcs8 (Nat.le_of_ble_eq_true rfl)) rfl (zkI (fun v53 s54 hw => ?_)) (zout hX hR hTb)
          refine z_goto hX dJ9_compareTo_85 (tgt := 97) rfl ?_
          refine z_sub (ls' := [none, none, none, none, none, none]) (zsN (zsN (zsN (zsN (zsN (zsN (zs0))))))) ?_
          exact hj48 _ _ hw
    · have hw := hw.2 c38
      refine z_aload_n hX dJ9_compareTo_40 rfl (i := 0) rfl ?_
      obtain ⟨a59, f60, r61, m62, hw⟩ := hw
      refine z_invV hX hd r61 (ci := 8) rfl rfl m62 dJ9_compareTo_41 (hC 335 _ zm335 _ _ _ _ hw) q1162 q1163 q1165 zh15 q1166 q144 zn335 rfl (Nat.le_of_ble_eq_true rfl) (st := []) rfl (zcs8 (Nat.le_of_ble_eq_true rfl)) rfl (zkI (fun v56 s57 hw => ?_)) (zout hX hR hTb)
      refine zJ_w (P := fun (j : Int32 → zS → Prop) => ∀ (p63 : Int32) (s64 : zS), j p63 s64 → zW X s64 68 [none, none, none, none, none, none] [.int p63]) hw (fun p63 s64 hw => ?_) (fun j65 hj65 hw => ?_)
      · exact z_ireturn hX hR dJ9_compareTo_68 rfl hw
      · refine z_if_eq hX dJ9_compareTo_44 (tgt := 59) rfl (fun c66 => ?_) (fun c66 => ?_)
        · have hw := hw.1 c66
          refine z_aload_n hX dJ9_compareTo_59 rfl (i := 2) rfl ?_
          refine z_aload_n hX dJ9_compareTo_60 rfl (i := 3) rfl ?_
          refine z_iload hX dJ9_compareTo_61 (i := 4) rfl ?_
          refine z_iload hX dJ9_compareTo_63 (i := 5) rfl ?_
          refine z_invS hX hd dJ9_compareTo_65 (hC 391 _ zm391 _ _ _ _ hw) q1985 q1986 zh18 q1987 q147 zn391 rfl (Nat.le_of_ble_eq_true rfl) (st := []) rfl (zcs8 (Nat.le_of_ble_eq_true rfl)) rfl (zkI (fun v67 s68 hw => ?_)) (zout hX hR hTb)
          refine z_sub (ls' := [none, none, none, none, none, none]) (zsN (zsN (zsN (zsN (zsN (zsN (zs0))))))) ?_
          exact hj65 _ _ hw
        · have hw := hw.2 c66
          refine z_aload_n hX dJ9_compareTo_47 rfl (i := 2) rfl ?_
          refine z_aload_n hX dJ9_compareTo_48 rfl (i := 3) rfl ?_
          refine z_iload hX dJ9_compareTo_49 (i := 4) rfl ?_
          refine z_iload hX dJ9_compareTo_51 (i := 5) rfl ?_
          refine z_invS hX hd dJ9_compareTo_53 (hC 420 _ zm420 _ _ _ _ hw) q1984 q1841 zh21 q1842 q151 zn420 rfl (Nat.le_of_ble_eq_true rfl) (st := []) rfl (zcs8 (Nat.le_of_ble_eq_true rfl)) rfl (zkI (fun v70 s71 hw => ?_)) (zout hX hR hTb)
          refine z_goto hX dJ9_compareTo_56 (tgt := 68) rfl ?_
          refine z_sub (ls' := [none, none, none, none, none, none]) (zsN (zsN (zsN (zsN (zsN (zsN (zs0))))))) ?_
          exact hj65 _ _ hw
  · have hw := hw.2 c1
    refine z_iconst hX (v := (0 : Int32)) dJ9_compareTo_5 (by decide) ?_
    exact z_ireturn hX hR dJ9_compareTo_6 rfl hw
abbrev cJ10_init : ByteArray := prog_46_method_1_code
def yJ10_init : MethodName := ⟨RJ10, "<init>", "()V"⟩
def dkwJ10_init_0 : List UInt8 := [42, 16, 16, 183, 0, 1, 177]
abbrev dktJ10_init_0 : List UInt8 := dkwJ10_init_0 ++ []
theorem dksJ10_init_0 : cJ10_init.data.toList.drop 0 = dktJ10_init_0 := by decide +kernel
theorem dJ10_init_0 : decode cJ10_init 0 = .ok (.aload_n 0, 1) := dk_42 (dk_at dksJ10_init_0 0 rfl rfl)
theorem dJ10_init_1 : decode cJ10_init 1 = .ok (.bipush 16, 2) := dk_16 16 (dk_at dksJ10_init_0 1 rfl rfl)
theorem dJ10_init_3 : decode cJ10_init 3 = .ok (.invokespecial 1, 3) := dk_183 0 1 (dk_at dksJ10_init_0 3 rfl rfl)
theorem dJ10_init_6 : decode cJ10_init 6 = .ok (.return_, 1) := dk_177 (dk_at dksJ10_init_0 6 rfl rfl)
/-- java/lang/StringBuilder.<init>()V -/
def zb346 (G : zPg) (C : zO) (args : List Value) (Q : zQ) (Y : zY) (σ : zS) : Prop := ∃ (a0 : Nat), args = [.ref a0] ∧ ((∃ a4, (some a0) = some a4 ∧ zcl C 331 [.ref a4, .int (16 : Int32)] Y σ (zqV (fun s2 => Q none s2))))
set_option maxHeartbeats 4000000 in
theorem wk346 {l : Launch} {g : zG} {d : Nat} {C : zO} (hG : zGk g) (hC : zSound l g d C) {args : List Value} {Q : zQ} {Y : zY} {σ : zS} (hw : zb346 (zpg g) C args Q Y σ) : zMet l g (d + 1) (⟨"java/lang/StringBuilder", "<init>", "()V"⟩, Cond.code ⟨"java/lang/StringBuilder", "<init>", "()V"⟩ prog_46_method_1_code 1 (Option.none : Option FieldType)) args σ Q Y := by
  obtain ⟨a0, rfl, hw⟩ := hw
  refine zof hG (by decide +kernel) [false] ⟨rfl, trivial⟩ (Nat.le_of_ble_eq_true rfl) (ls := [some (va_rf (some a0))]) rfl ?_
  intro X hX hR hTb hd1 hd2 hl hg hnm
  subst hl
  subst hg
  have hd : zDep X d := ⟨hd1, hd2⟩
  refine z_aload_n hX dJ10_init_0 rfl (i := 0) rfl ?_
  refine z_bipush hX (v := (16 : Int32)) dJ10_init_1 (by decide) ?_
  obtain ⟨a4, r5, hw⟩ := hw
  refine z_invI hX hd r5 dJ10_init_3 (hC 331 _ zm331 _ _ _ _ hw) q1099 q1100 rfl zh15 q1101 q144 zn331 rfl (Nat.le_of_ble_eq_true rfl) (st := []) rfl (zcs8 (Nat.le_of_ble_eq_true rfl)) rfl (zkV (fun s2 hw => ?_)) (zout hX hR hTb)
  exact z_return hX hR dJ10_init_6 hw
abbrev cJ10_setLength : ByteArray := prog_46_method_89_code
def yJ10_setLength : MethodName := ⟨RJ10, "setLength", "(I)V"⟩
def dkwJ10_setLength_0 : List UInt8 := [42, 27, 183, 1, 77, 177]
abbrev dktJ10_setLength_0 : List UInt8 := dkwJ10_setLength_0 ++ []
theorem dksJ10_setLength_0 : cJ10_setLength.data.toList.drop 0 = dktJ10_setLength_0 := by decide +kernel
theorem dJ10_setLength_0 : decode cJ10_setLength 0 = .ok (.aload_n 0, 1) := dk_42 (dk_at dksJ10_setLength_0 0 rfl rfl)
theorem dJ10_setLength_1 : decode cJ10_setLength 1 = .ok (.iload_n 1, 1) := dk_27 (dk_at dksJ10_setLength_0 1 rfl rfl)
theorem dJ10_setLength_2 : decode cJ10_setLength 2 = .ok (.invokespecial 333, 3) := dk_183 1 77 (dk_at dksJ10_setLength_0 2 rfl rfl)
theorem dJ10_setLength_5 : decode cJ10_setLength 5 = .ok (.return_, 1) := dk_177 (dk_at dksJ10_setLength_0 5 rfl rfl)
/-- java/lang/StringBuilder.setLength(I)V -/
def zb347 (G : zPg) (C : zO) (args : List Value) (Q : zQ) (Y : zY) (σ : zS) : Prop := ∃ (a0 : Nat) (x1 : Int32), args = [.ref a0, .int x1] ∧ (zrc σ (some a0) 8 (fun a4 => zcl C 332 [.ref a4, .int x1] Y σ (zqV (fun s2 => Q none s2))))
set_option maxHeartbeats 4000000 in
theorem wk347 {l : Launch} {g : zG} {d : Nat} {C : zO} (hG : zGk g) (hC : zSound l g d C) {args : List Value} {Q : zQ} {Y : zY} {σ : zS} (hw : zb347 (zpg g) C args Q Y σ) : zMet l g (d + 1) (⟨"java/lang/StringBuilder", "setLength", "(I)V"⟩, Cond.code ⟨"java/lang/StringBuilder", "setLength", "(I)V"⟩ prog_46_method_89_code 2 (Option.none : Option FieldType)) args σ Q Y := by
  obtain ⟨a0, x1, rfl, hw⟩ := hw
  refine zof hG (by decide +kernel) [false, false] ⟨rfl, rfl, trivial⟩ (Nat.le_of_ble_eq_true rfl) (ls := [some (va_rf (some a0)), some (.int x1)]) rfl ?_
  intro X hX hR hTb hd1 hd2 hl hg hnm
  subst hl
  subst hg
  have hd : zDep X d := ⟨hd1, hd2⟩
  refine z_aload_n hX dJ10_setLength_0 rfl (i := 0) rfl ?_
  refine z_iload_n hX dJ10_setLength_1 rfl (i := 1) rfl ?_
  obtain ⟨a4, f6, r5, m7, hw⟩ := hw
  refine z_invSU hX hd r5 (ci := 8) rfl m7 dJ10_setLength_2 (hC 332 _ zm332 _ _ _ _ hw) q1139 q3166 q1124 q1140 (by decide) q1141 q144 zn332 rfl (Nat.le_of_ble_eq_true rfl) (st := []) rfl (zcs8 (Nat.le_of_ble_eq_true rfl)) rfl (zkV (fun s2 hw => ?_)) (zout hX hR hTb)
  exact z_return hX hR dJ10_setLength_5 hw
abbrev cJ10_append : ByteArray := prog_46_method_7_code
def yJ10_append : MethodName := ⟨RJ10, "append", "(Ljava/lang/String;)Ljava/lang/StringBuilder;"⟩
def dkwJ10_append_0 : List UInt8 := [42, 43, 183, 0, 29, 87, 42, 176]
abbrev dktJ10_append_0 : List UInt8 := dkwJ10_append_0 ++ []
theorem dksJ10_append_0 : cJ10_append.data.toList.drop 0 = dktJ10_append_0 := by decide +kernel
theorem dJ10_append_0 : decode cJ10_append 0 = .ok (.aload_n 0, 1) := dk_42 (dk_at dksJ10_append_0 0 rfl rfl)
theorem dJ10_append_1 : decode cJ10_append 1 = .ok (.aload_n 1, 1) := dk_43 (dk_at dksJ10_append_0 1 rfl rfl)
theorem dJ10_append_2 : decode cJ10_append 2 = .ok (.invokespecial 29, 3) := dk_183 0 29 (dk_at dksJ10_append_0 2 rfl rfl)
theorem dJ10_append_5 : decode cJ10_append 5 = .ok (.pop, 1) := dk_87 (dk_at dksJ10_append_0 5 rfl rfl)
theorem dJ10_append_6 : decode cJ10_append 6 = .ok (.aload_n 0, 1) := dk_42 (dk_at dksJ10_append_0 6 rfl rfl)
theorem dJ10_append_7 : decode cJ10_append 7 = .ok (.areturn, 1) := dk_176 (dk_at dksJ10_append_0 7 rfl rfl)
/-- java/lang/StringBuilder.append(Ljava/lang/String;)Ljava/lang/StringBuilder; -/
def zb348 (G : zPg) (C : zO) (args : List Value) (Q : zQ) (Y : zY) (σ : zS) : Prop := ∃ (a0 : Nat) (x1 : Option Nat), args = [.ref a0, va_rf x1] ∧ (zrc σ (some a0) 8 (fun a4 => zcl C 336 [.ref a4, va_rf x1] Y σ (zqR (fun v1 s2 => Q (some (va_rf (some a0))) s2))))
set_option maxHeartbeats 4000000 in
theorem wk348 {l : Launch} {g : zG} {d : Nat} {C : zO} (hG : zGk g) (hC : zSound l g d C) {args : List Value} {Q : zQ} {Y : zY} {σ : zS} (hw : zb348 (zpg g) C args Q Y σ) : zMet l g (d + 1) (⟨"java/lang/StringBuilder", "append", "(Ljava/lang/String;)Ljava/lang/StringBuilder;"⟩, Cond.code ⟨"java/lang/StringBuilder", "append", "(Ljava/lang/String;)Ljava/lang/StringBuilder;"⟩ prog_46_method_7_code 2 (Option.some (FieldType.object "java/lang/StringBuilder"))) args σ Q Y := by
  obtain ⟨a0, x1, rfl, hw⟩ := hw
  refine zof hG (by decide +kernel) [false, false] ⟨rfl, (zc_rf _), trivial⟩ (Nat.le_of_ble_eq_true rfl) (ls := [some (va_rf (some a0)), some (va_rf x1)]) rfl ?_
  intro X hX hR hTb hd1 hd2 hl hg hnm
  subst hl
  subst hg
  have hd : zDep X d := ⟨hd1, hd2⟩
  refine z_aload_n hX dJ10_append_0 rfl (i := 0) rfl ?_
  refine z_aload_n hX dJ10_append_1 rfl (i := 1) rfl ?_
  obtain ⟨a4, f6, r5, m7, hw⟩ := hw
  refine z_invSU hX hd r5 (ci := 8) rfl m7 dJ10_append_2 (hC 336 _ zm336 _ _ _ _ hw) q1184 q3169 q1124 q1185 (by decide) q1186 q144 zn336 rfl (Nat.le_of_ble_eq_true rfl) (st := []) rfl (zcs8 (Nat.le_of_ble_eq_true rfl)) rfl (zkR (fun v1 s2 hw => ?_)) (zout hX hR hTb)
  refine z_pop hX dJ10_append_5 (zc_rf _) ?_
  refine z_aload_n hX dJ10_append_6 rfl (i := 0) rfl ?_
  exact z_areturn hX hR dJ10_append_7 (Or.inl ⟨_, rfl⟩) hw
abbrev cJ10_append_2 : ByteArray := prog_46_method_15_code
def yJ10_append_2 : MethodName := ⟨RJ10, "append", "(I)Ljava/lang/StringBuilder;"⟩
def dkwJ10_append_2_0 : List UInt8 := [42, 27, 183, 0, 53, 87, 42, 176]
abbrev dktJ10_append_2_0 : List UInt8 := dkwJ10_append_2_0 ++ []
theorem dksJ10_append_2_0 : cJ10_append_2.data.toList.drop 0 = dktJ10_append_2_0 := by decide +kernel
theorem dJ10_append_2_0 : decode cJ10_append_2 0 = .ok (.aload_n 0, 1) := dk_42 (dk_at dksJ10_append_2_0 0 rfl rfl)
theorem dJ10_append_2_1 : decode cJ10_append_2 1 = .ok (.iload_n 1, 1) := dk_27 (dk_at dksJ10_append_2_0 1 rfl rfl)
theorem dJ10_append_2_2 : decode cJ10_append_2 2 = .ok (.invokespecial 53, 3) := dk_183 0 53 (dk_at dksJ10_append_2_0 2 rfl rfl)
theorem dJ10_append_2_5 : decode cJ10_append_2 5 = .ok (.pop, 1) := dk_87 (dk_at dksJ10_append_2_0 5 rfl rfl)
theorem dJ10_append_2_6 : decode cJ10_append_2 6 = .ok (.aload_n 0, 1) := dk_42 (dk_at dksJ10_append_2_0 6 rfl rfl)
theorem dJ10_append_2_7 : decode cJ10_append_2 7 = .ok (.areturn, 1) := dk_176 (dk_at dksJ10_append_2_0 7 rfl rfl)
/-- java/lang/StringBuilder.append(I)Ljava/lang/StringBuilder; -/
def zb349 (G : zPg) (C : zO) (args : List Value) (Q : zQ) (Y : zY) (σ : zS) : Prop := ∃ (a0 : Nat) (x1 : Int32), args = [.ref a0, .int x1] ∧ (zrc σ (some a0) 8 (fun a4 => zcl C 341 [.ref a4, .int x1] Y σ (zqR (fun v1 s2 => Q (some (va_rf (some a0))) s2))))
set_option maxHeartbeats 4000000 in
theorem wk349 {l : Launch} {g : zG} {d : Nat} {C : zO} (hG : zGk g) (hC : zSound l g d C) {args : List Value} {Q : zQ} {Y : zY} {σ : zS} (hw : zb349 (zpg g) C args Q Y σ) : zMet l g (d + 1) (⟨"java/lang/StringBuilder", "append", "(I)Ljava/lang/StringBuilder;"⟩, Cond.code ⟨"java/lang/StringBuilder", "append", "(I)Ljava/lang/StringBuilder;"⟩ prog_46_method_15_code 2 (Option.some (FieldType.object "java/lang/StringBuilder"))) args σ Q Y := by
  obtain ⟨a0, x1, rfl, hw⟩ := hw
  refine zof hG (by decide +kernel) [false, false] ⟨rfl, rfl, trivial⟩ (Nat.le_of_ble_eq_true rfl) (ls := [some (va_rf (some a0)), some (.int x1)]) rfl ?_
  intro X hX hR hTb hd1 hd2 hl hg hnm
  subst hl
  subst hg
  have hd : zDep X d := ⟨hd1, hd2⟩
  refine z_aload_n hX dJ10_append_2_0 rfl (i := 0) rfl ?_
  refine z_iload_n hX dJ10_append_2_1 rfl (i := 1) rfl ?_
  obtain ⟨a4, f6, r5, m7, hw⟩ := hw
  refine z_invSU hX hd r5 (ci := 8) rfl m7 dJ10_append_2_2 (hC 341 _ zm341 _ _ _ _ hw) q1245 q3174 q1124 q1246 (by decide) q1247 q144 zn341 rfl (Nat.le_of_ble_eq_true rfl) (st := []) rfl (zcs8 (Nat.le_of_ble_eq_true rfl)) rfl (zkR (fun v1 s2 hw => ?_)) (zout hX hR hTb)
  refine z_pop hX dJ10_append_2_5 (zc_rf _) ?_
  refine z_aload_n hX dJ10_append_2_6 rfl (i := 0) rfl ?_
  exact z_areturn hX hR dJ10_append_2_7 (Or.inl ⟨_, rfl⟩) hw
abbrev cJ10_toString : ByteArray := prog_46_method_42_code
def yJ10_toString : MethodName := ⟨RJ10, "toString", "()Ljava/lang/String;"⟩
def dkwJ10_toString_0 : List UInt8 := [187, 0, 18, 89, 42, 183, 0, 137, 176]
abbrev dktJ10_toString_0 : List UInt8 := dkwJ10_toString_0 ++ []
theorem dksJ10_toString_0 : cJ10_toString.data.toList.drop 0 = dktJ10_toString_0 := by decide +kernel
theorem dJ10_toString_0 : decode cJ10_toString 0 = .ok (.new 18, 3) := dk_187 0 18 (dk_at dksJ10_toString_0 0 rfl rfl)
theorem dJ10_toString_3 : decode cJ10_toString 3 = .ok (.dup, 1) := dk_89 (dk_at dksJ10_toString_0 3 rfl rfl)
theorem dJ10_toString_4 : decode cJ10_toString 4 = .ok (.aload_n 0, 1) := dk_42 (dk_at dksJ10_toString_0 4 rfl rfl)
theorem dJ10_toString_5 : decode cJ10_toString 5 = .ok (.invokespecial 137, 3) := dk_183 0 137 (dk_at dksJ10_toString_0 5 rfl rfl)
theorem dJ10_toString_8 : decode cJ10_toString 8 = .ok (.areturn, 1) := dk_176 (dk_at dksJ10_toString_0 8 rfl rfl)
/-- java/lang/StringBuilder.toString()Ljava/lang/String; -/
def zb350 (G : zPg) (C : zO) (args : List Value) (Q : zQ) (Y : zY) (σ : zS) : Prop := ∃ (a0 : Nat), args = [.ref a0] ∧ (znew σ 9 [va_rf none, .int 0, .int 0, .int 0] 4 (fun s1 => (∃ a7, (some σ.2.1) = some a7 ∧ zcl C 363 [.ref a7, va_rf (some a0)] Y s1 (zqV (fun s5 => Q (some (va_rf (some σ.2.1))) s5)))))
set_option maxHeartbeats 4000000 in
theorem wk350 {l : Launch} {g : zG} {d : Nat} {C : zO} (hG : zGk g) (hC : zSound l g d C) {args : List Value} {Q : zQ} {Y : zY} {σ : zS} (hw : zb350 (zpg g) C args Q Y σ) : zMet l g (d + 1) (⟨"java/lang/StringBuilder", "toString", "()Ljava/lang/String;"⟩, Cond.code ⟨"java/lang/StringBuilder", "toString", "()Ljava/lang/String;"⟩ prog_46_method_42_code 1 (Option.some (FieldType.object "java/lang/String"))) args σ Q Y := by
  obtain ⟨a0, rfl, hw⟩ := hw
  refine zof hG (by decide +kernel) [false] ⟨rfl, trivial⟩ (Nat.le_of_ble_eq_true rfl) (ls := [some (va_rf (some a0))]) rfl ?_
  intro X hX hR hTb hd1 hd2 hl hg hnm
  subst hl
  subst hg
  have hd : zDep X d := ⟨hd1, hd2⟩
  refine z_new hX zc9 dJ10_toString_0 q1272 q1273 q146 (fs := [va_rf none, .int 0, .int 0, .int 0]) (fun j hj => by have hj : j < 4 := hj; exact zdf9 j hj) hw.1 hw.2.1 (fun z2 => z_nm (fun s1 e3 => ?_))
  have hw := hw.2.2 z2 s1 e3
  refine z_dup hX dJ10_toString_3 (zc_rf _) ?_
  refine z_aload_n hX dJ10_toString_4 rfl (i := 0) rfl ?_
  obtain ⟨a7, r8, hw⟩ := hw
  refine z_invI hX hd r8 dJ10_toString_5 (hC 363 _ zm363 _ _ _ _ hw) q1274 q1275 rfl zh17 q1276 q146 zn363 rfl (Nat.le_of_ble_eq_true rfl) (st := [va_rf (some σ.2.1)]) rfl (zcs8 (Nat.le_of_ble_eq_true rfl)) rfl (zkV (fun s5 hw => ?_)) (zout hX hR hTb)
  exact z_areturn hX hR dJ10_toString_8 (Or.inl ⟨_, rfl⟩) hw
abbrev cJ10_length : ByteArray := prog_46_method_93_code
def yJ10_length : MethodName := ⟨RJ10, "length", "()I"⟩
theorem dJ10_length_0 : decode cJ10_length 0 = .ok (.aload_n 0, 1) := by decide +kernel
theorem dJ10_length_1 : decode cJ10_length 1 = .ok (.invokespecial 343, 3) := by decide +kernel
theorem dJ10_length_4 : decode cJ10_length 4 = .ok (.ireturn, 1) := by decide +kernel
/-- java/lang/StringBuilder.length()I -/
def zb351 (G : zPg) (C : zO) (args : List Value) (Q : zQ) (Y : zY) (σ : zS) : Prop := ∃ (a0 : Nat), args = [.ref a0] ∧ (zrc σ (some a0) 8 (fun a4 => zcl C 343 [.ref a4] Y σ (zqI (fun v1 s2 => Q (some (.int v1)) s2))))
set_option maxHeartbeats 4000000 in
theorem wk351 {l : Launch} {g : zG} {d : Nat} {C : zO} (hG : zGk g) (hC : zSound l g d C) {args : List Value} {Q : zQ} {Y : zY} {σ : zS} (hw : zb351 (zpg g) C args Q Y σ) : zMet l g (d + 1) (⟨"java/lang/StringBuilder", "length", "()I"⟩, Cond.code ⟨"java/lang/StringBuilder", "length", "()I"⟩ prog_46_method_93_code 1 (Option.some FieldType.int)) args σ Q Y := by
  obtain ⟨a0, rfl, hw⟩ := hw
  refine zof hG (by decide +kernel) [false] ⟨rfl, trivial⟩ (Nat.le_of_ble_eq_true rfl) (ls := [some (va_rf (some a0))]) rfl ?_
  intro X hX hR hTb hd1 hd2 hl hg hnm
  subst hl
  subst hg
  have hd : zDep X d := ⟨hd1, hd2⟩
  refine z_aload_n hX dJ10_length_0 rfl (i := 0) rfl ?_
  obtain ⟨a4, f6, r5, m7, hw⟩ := hw
  refine z_invSU hX hd r5 (ci := 8) rfl m7 dJ10_length_1 (hC 343 _ zm343 _ _ _ _ hw) q1292 q1288 q1124 q1287 (by decide) q1293 q144 zn343 rfl (Nat.le_of_ble_eq_true rfl) (st := []) rfl (zcs8 (Nat.le_of_ble_eq_true rfl)) rfl (zkI (fun v1 s2 hw => ?_)) (zout hX hR hTb)
  exact z_ireturn hX hR dJ10_length_4 rfl hw
abbrev cJ10_append_3 : ByteArray := prog_46_method_14_code
def yJ10_append_3 : MethodName := ⟨RJ10, "append", "(C)Ljava/lang/StringBuilder;"⟩
def dkwJ10_append_3_0 : List UInt8 := [42, 27, 183, 0, 50, 87, 42, 176]
abbrev dktJ10_append_3_0 : List UInt8 := dkwJ10_append_3_0 ++ []
theorem dksJ10_append_3_0 : cJ10_append_3.data.toList.drop 0 = dktJ10_append_3_0 := by decide +kernel
theorem dJ10_append_3_0 : decode cJ10_append_3 0 = .ok (.aload_n 0, 1) := dk_42 (dk_at dksJ10_append_3_0 0 rfl rfl)
theorem dJ10_append_3_1 : decode cJ10_append_3 1 = .ok (.iload_n 1, 1) := dk_27 (dk_at dksJ10_append_3_0 1 rfl rfl)
theorem dJ10_append_3_2 : decode cJ10_append_3 2 = .ok (.invokespecial 50, 3) := dk_183 0 50 (dk_at dksJ10_append_3_0 2 rfl rfl)
theorem dJ10_append_3_5 : decode cJ10_append_3 5 = .ok (.pop, 1) := dk_87 (dk_at dksJ10_append_3_0 5 rfl rfl)
theorem dJ10_append_3_6 : decode cJ10_append_3 6 = .ok (.aload_n 0, 1) := dk_42 (dk_at dksJ10_append_3_0 6 rfl rfl)
theorem dJ10_append_3_7 : decode cJ10_append_3 7 = .ok (.areturn, 1) := dk_176 (dk_at dksJ10_append_3_0 7 rfl rfl)
/-- java/lang/StringBuilder.append(C)Ljava/lang/StringBuilder; -/
def zb352 (G : zPg) (C : zO) (args : List Value) (Q : zQ) (Y : zY) (σ : zS) : Prop := ∃ (a0 : Nat) (x1 : Int32), args = [.ref a0, .int x1] ∧ (zrc σ (some a0) 8 (fun a4 => zcl C 344 [.ref a4, .int x1] Y σ (zqR (fun v1 s2 => Q (some (va_rf (some a0))) s2))))
set_option maxHeartbeats 4000000 in
theorem wk352 {l : Launch} {g : zG} {d : Nat} {C : zO} (hG : zGk g) (hC : zSound l g d C) {args : List Value} {Q : zQ} {Y : zY} {σ : zS} (hw : zb352 (zpg g) C args Q Y σ) : zMet l g (d + 1) (⟨"java/lang/StringBuilder", "append", "(C)Ljava/lang/StringBuilder;"⟩, Cond.code ⟨"java/lang/StringBuilder", "append", "(C)Ljava/lang/StringBuilder;"⟩ prog_46_method_14_code 2 (Option.some (FieldType.object "java/lang/StringBuilder"))) args σ Q Y := by
  obtain ⟨a0, x1, rfl, hw⟩ := hw
  refine zof hG (by decide +kernel) [false, false] ⟨rfl, rfl, trivial⟩ (Nat.le_of_ble_eq_true rfl) (ls := [some (va_rf (some a0)), some (.int x1)]) rfl ?_
  intro X hX hR hTb hd1 hd2 hl hg hnm
  subst hl
  subst hg
  have hd : zDep X d := ⟨hd1, hd2⟩
  refine z_aload_n hX dJ10_append_3_0 rfl (i := 0) rfl ?_
  refine z_iload_n hX dJ10_append_3_1 rfl (i := 1) rfl ?_
  obtain ⟨a4, f6, r5, m7, hw⟩ := hw
  refine z_invSU hX hd r5 (ci := 8) rfl m7 dJ10_append_3_2 (hC 344 _ zm344 _ _ _ _ hw) q1353 q3175 q1124 q1354 (by decide) q1355 q144 zn344 rfl (Nat.le_of_ble_eq_true rfl) (st := []) rfl (zcs8 (Nat.le_of_ble_eq_true rfl)) rfl (zkR (fun v1 s2 hw => ?_)) (zout hX hR hTb)
  refine z_pop hX dJ10_append_3_5 (zc_rf _) ?_
  refine z_aload_n hX dJ10_append_3_6 rfl (i := 0) rfl ?_
  exact z_areturn hX hR dJ10_append_3_7 (Or.inl ⟨_, rfl⟩) hw
abbrev cJ10_compareTo : ByteArray := prog_46_method_97_code
def yJ10_compareTo : MethodName := ⟨RJ10, "compareTo", "(Ljava/lang/Object;)I"⟩
def dkwJ10_compareTo_0 : List UInt8 := [42, 43, 192, 0, 24, 182, 1, 90, 172]
abbrev dktJ10_compareTo_0 : List UInt8 := dkwJ10_compareTo_0 ++ []
theorem dksJ10_compareTo_0 : cJ10_compareTo.data.toList.drop 0 = dktJ10_compareTo_0 := by decide +kernel
theorem dJ10_compareTo_0 : decode cJ10_compareTo 0 = .ok (.aload_n 0, 1) := dk_42 (dk_at dksJ10_compareTo_0 0 rfl rfl)
theorem dJ10_compareTo_1 : decode cJ10_compareTo 1 = .ok (.aload_n 1, 1) := dk_43 (dk_at dksJ10_compareTo_0 1 rfl rfl)
theorem dJ10_compareTo_2 : decode cJ10_compareTo 2 = .ok (.checkcast 24, 3) := dk_192 0 24 (dk_at dksJ10_compareTo_0 2 rfl rfl)
theorem dJ10_compareTo_5 : decode cJ10_compareTo 5 = .ok (.invokevirtual 346, 3) := dk_182 1 90 (dk_at dksJ10_compareTo_0 5 rfl rfl)
theorem dJ10_compareTo_8 : decode cJ10_compareTo 8 = .ok (.ireturn, 1) := dk_172 (dk_at dksJ10_compareTo_0 8 rfl rfl)
/-- java/lang/StringBuilder.compareTo(Ljava/lang/Object;)I -/
def zb353 (G : zPg) (C : zO) (args : List Value) (Q : zQ) (Y : zY) (σ : zS) : Prop := ∃ (a0 : Nat) (x1 : Option Nat), args = [.ref a0, va_rf x1] ∧ ((zcst σ x1 [8] ∧ zrc σ (some a0) 8 (fun a4 => zcl C 354 [.ref a4, va_rf x1] Y σ (zqI (fun v1 s2 => Q (some (.int v1)) s2)))))
set_option maxHeartbeats 4000000 in
theorem wk353 {l : Launch} {g : zG} {d : Nat} {C : zO} (hG : zGk g) (hC : zSound l g d C) {args : List Value} {Q : zQ} {Y : zY} {σ : zS} (hw : zb353 (zpg g) C args Q Y σ) : zMet l g (d + 1) (⟨"java/lang/StringBuilder", "compareTo", "(Ljava/lang/Object;)I"⟩, Cond.code ⟨"java/lang/StringBuilder", "compareTo", "(Ljava/lang/Object;)I"⟩ prog_46_method_97_code 2 (Option.some FieldType.int)) args σ Q Y := by
  obtain ⟨a0, x1, rfl, hw⟩ := hw
  refine zof hG (by decide +kernel) [false, false] ⟨rfl, (zc_rf _), trivial⟩ (Nat.le_of_ble_eq_true rfl) (ls := [some (va_rf (some a0)), some (va_rf x1)]) rfl ?_
  intro X hX hR hTb hd1 hd2 hl hg hnm
  subst hl
  subst hg
  have hd : zDep X d := ⟨hd1, hd2⟩
  refine z_aload_n hX dJ10_compareTo_0 rfl (i := 0) rfl ?_
  refine z_aload_n hX dJ10_compareTo_1 rfl (i := 1) rfl ?_
  refine z_cast hX dJ10_compareTo_2 q1976 (zfa1 ⟨_, rfl, Or.inl rfl⟩ (zfa0)) hw.1 ?_
  have hw := hw.2
  obtain ⟨a4, f5, r6, m7, hw⟩ := hw
  refine z_invV hX hd r6 (ci := 8) rfl rfl m7 dJ10_compareTo_5 (hC 354 _ zm354 _ _ _ _ hw) q1977 q1978 q1979 zh16 q1980 q145 zn354 rfl (Nat.le_of_ble_eq_true rfl) (st := []) rfl (zcs8 (Nat.le_of_ble_eq_true rfl)) rfl (zkI (fun v1 s2 hw => ?_)) (zout hX hR hTb)
  exact z_ireturn hX hR dJ10_compareTo_8 rfl hw
abbrev cJ10_compareTo_2 : ByteArray := prog_46_method_5_code
def yJ10_compareTo_2 : MethodName := ⟨RJ10, "compareTo", "(Ljava/lang/StringBuilder;)I"⟩
def dkwJ10_compareTo_2_0 : List UInt8 := [42, 43, 183, 0, 13, 172]
abbrev dktJ10_compareTo_2_0 : List UInt8 := dkwJ10_compareTo_2_0 ++ []
theorem dksJ10_compareTo_2_0 : cJ10_compareTo_2.data.toList.drop 0 = dktJ10_compareTo_2_0 := by decide +kernel
theorem dJ10_compareTo_2_0 : decode cJ10_compareTo_2 0 = .ok (.aload_n 0, 1) := dk_42 (dk_at dksJ10_compareTo_2_0 0 rfl rfl)
theorem dJ10_compareTo_2_1 : decode cJ10_compareTo_2 1 = .ok (.aload_n 1, 1) := dk_43 (dk_at dksJ10_compareTo_2_0 1 rfl rfl)
theorem dJ10_compareTo_2_2 : decode cJ10_compareTo_2 2 = .ok (.invokespecial 13, 3) := dk_183 0 13 (dk_at dksJ10_compareTo_2_0 2 rfl rfl)
theorem dJ10_compareTo_2_5 : decode cJ10_compareTo_2 5 = .ok (.ireturn, 1) := dk_172 (dk_at dksJ10_compareTo_2_0 5 rfl rfl)
/-- java/lang/StringBuilder.compareTo(Ljava/lang/StringBuilder;)I -/
def zb354 (G : zPg) (C : zO) (args : List Value) (Q : zQ) (Y : zY) (σ : zS) : Prop := ∃ (a0 : Nat) (x1 : Option Nat), args = [.ref a0, va_rf x1] ∧ (zrc σ (some a0) 8 (fun a4 => zcl C 345 [.ref a4, va_rf x1] Y σ (zqI (fun v1 s2 => Q (some (.int v1)) s2))))
set_option maxHeartbeats 4000000 in
theorem wk354 {l : Launch} {g : zG} {d : Nat} {C : zO} (hG : zGk g) (hC : zSound l g d C) {args : List Value} {Q : zQ} {Y : zY} {σ : zS} (hw : zb354 (zpg g) C args Q Y σ) : zMet l g (d + 1) (⟨"java/lang/StringBuilder", "compareTo", "(Ljava/lang/StringBuilder;)I"⟩, Cond.code ⟨"java/lang/StringBuilder", "compareTo", "(Ljava/lang/StringBuilder;)I"⟩ prog_46_method_5_code 2 (Option.some FieldType.int)) args σ Q Y := by
  obtain ⟨a0, x1, rfl, hw⟩ := hw
  refine zof hG (by decide +kernel) [false, false] ⟨rfl, (zc_rf _), trivial⟩ (Nat.le_of_ble_eq_true rfl) (ls := [some (va_rf (some a0)), some (va_rf x1)]) rfl ?_
  intro X hX hR hTb hd1 hd2 hl hg hnm
  subst hl
  subst hg
  have hd : zDep X d := ⟨hd1, hd2⟩
  refine z_aload_n hX dJ10_compareTo_2_0 rfl (i := 0) rfl ?_
  refine z_aload_n hX dJ10_compareTo_2_1 rfl (i := 1) rfl ?_
  obtain ⟨a4, f6, r5, m7, hw⟩ := hw
  refine z_invSU hX hd r5 (ci := 8) rfl m7 dJ10_compareTo_2_2 (hC 345 _ zm345 _ _ _ _ hw) q1981 q3179 q1124 q1982 (by decide) q1983 q144 zn345 rfl (Nat.le_of_ble_eq_true rfl) (st := []) rfl (zcs8 (Nat.le_of_ble_eq_true rfl)) rfl (zkI (fun v1 s2 hw => ?_)) (zout hX hR hTb)
  exact z_ireturn hX hR dJ10_compareTo_2_5 rfl hw
abbrev cJ11_length : ByteArray := prog_45_method_54_code
def yJ11_length : MethodName := ⟨RJ11, "length", "()I"⟩
def dkwJ11_length_0 : List UInt8 := [42, 180, 0, 9, 190, 42, 182, 1, 79, 122, 172]
abbrev dktJ11_length_0 : List UInt8 := dkwJ11_length_0 ++ []
theorem dksJ11_length_0 : cJ11_length.data.toList.drop 0 = dktJ11_length_0 := by decide +kernel
theorem dJ11_length_0 : decode cJ11_length 0 = .ok (.aload_n 0, 1) := dk_42 (dk_at dksJ11_length_0 0 rfl rfl)
theorem dJ11_length_1 : decode cJ11_length 1 = .ok (.getfield 9, 3) := dk_180 0 9 (dk_at dksJ11_length_0 1 rfl rfl)
theorem dJ11_length_4 : decode cJ11_length 4 = .ok (.arraylength, 1) := dk_190 (dk_at dksJ11_length_0 4 rfl rfl)
theorem dJ11_length_5 : decode cJ11_length 5 = .ok (.aload_n 0, 1) := dk_42 (dk_at dksJ11_length_0 5 rfl rfl)
theorem dJ11_length_6 : decode cJ11_length 6 = .ok (.invokevirtual 335, 3) := dk_182 1 79 (dk_at dksJ11_length_0 6 rfl rfl)
theorem dJ11_length_9 : decode cJ11_length 9 = .ok (.ishr, 1) := dk_122 (dk_at dksJ11_length_0 9 rfl rfl)
theorem dJ11_length_10 : decode cJ11_length 10 = .ok (.ireturn, 1) := dk_172 (dk_at dksJ11_length_0 10 rfl rfl)
/-- java/lang/String.length()I -/
def zb355 (G : zPg) (C : zO) (args : List Value) (Q : zQ) (Y : zY) (σ : zS) : Prop := ∃ (a0 : Nat), args = [.ref a0] ∧ (zgR σ (some a0) 9 0 (fun v1 => zln σ 2 v1 (fun v11 => zrc σ (some a0) 9 (fun a16 => zcl C 356 [.ref a16] Y σ (zqI (fun v13 s14 => Q (some (.int (v11 >>> (v13 &&& 31)))) s14))))))
set_option maxHeartbeats 4000000 in
theorem wk355 {l : Launch} {g : zG} {d : Nat} {C : zO} (hG : zGk g) (hC : zSound l g d C) {args : List Value} {Q : zQ} {Y : zY} {σ : zS} (hw : zb355 (zpg g) C args Q Y σ) : zMet l g (d + 1) (⟨"java/lang/String", "length", "()I"⟩, Cond.code ⟨"java/lang/String", "length", "()I"⟩ prog_45_method_54_code 1 (Option.some FieldType.int)) args σ Q Y := by
  obtain ⟨a0, rfl, hw⟩ := hw
  refine zof hG (by decide +kernel) [false] ⟨rfl, trivial⟩ (Nat.le_of_ble_eq_true rfl) (ls := [some (va_rf (some a0))]) rfl ?_
  intro X hX hR hTb hd1 hd2 hl hg hnm
  subst hl
  subst hg
  have hd : zDep X d := ⟨hd1, hd2⟩
  refine z_aload_n hX dJ11_length_0 rfl (i := 0) rfl ?_
  obtain ⟨a2, f3, v1, r4, m5, e6, hw⟩ := hw
  refine z_get hX zc9 (k := 0) dJ11_length_1 (Nat.le_of_ble_eq_true rfl) (zlk hX q1327) r4 m5 e6 ?_
  obtain ⟨a7, n8, r9, m10, hw⟩ := hw
  refine z_alen hX 2 dJ11_length_4 r9 m10 ?_
  revert hw
  generalize nI n8.1 = v11
  intro hw
  refine z_aload_n hX dJ11_length_5 rfl (i := 0) rfl ?_
  obtain ⟨a16, f17, r18, m19, hw⟩ := hw
  refine z_invV hX hd r18 (ci := 9) rfl rfl m19 dJ11_length_6 (hC 356 _ zm356 _ _ _ _ hw) q1008 q1009 q1010 zh17 q1011 q146 zn356 rfl (Nat.le_of_ble_eq_true rfl) (st := [.int v11]) rfl (zcs8 (Nat.le_of_ble_eq_true rfl)) rfl (zkI (fun v13 s14 hw => ?_)) (zout hX hR hTb)
  refine z_ishr hX dJ11_length_9 ?_
  exact z_ireturn hX hR dJ11_length_10 rfl hw
abbrev cJ11_coder : ByteArray := prog_45_method_152_code
def yJ11_coder : MethodName := ⟨RJ11, "coder", "()B"⟩
def dkwJ11_coder_0 : List UInt8 := [178, 0, 38, 153, 0, 10, 42, 180, 0, 15, 167, 0, 4, 4, 172]
abbrev dktJ11_coder_0 : List UInt8 := dkwJ11_coder_0 ++ []
theorem dksJ11_coder_0 : cJ11_coder.data.toList.drop 0 = dktJ11_coder_0 := by decide +kernel
theorem dJ11_coder_0 : decode cJ11_coder 0 = .ok (.getstatic 38, 3) := dk_178 0 38 (dk_at dksJ11_coder_0 0 rfl rfl)
theorem dJ11_coder_3 : decode cJ11_coder 3 = .ok (.ifCond .eq 10, 3) := dk_153 0 10 (dk_at dksJ11_coder_0 3 rfl rfl)
theorem dJ11_coder_6 : decode cJ11_coder 6 = .ok (.aload_n 0, 1) := dk_42 (dk_at dksJ11_coder_0 6 rfl rfl)
theorem dJ11_coder_7 : decode cJ11_coder 7 = .ok (.getfield 15, 3) := dk_180 0 15 (dk_at dksJ11_coder_0 7 rfl rfl)
theorem dJ11_coder_10 : decode cJ11_coder 10 = .ok (.goto 4, 3) := dk_167 0 4 (dk_at dksJ11_coder_0 10 rfl rfl)
theorem dJ11_coder_13 : decode cJ11_coder 13 = .ok (.iconst 1, 1) := dk_4 (dk_at dksJ11_coder_0 13 rfl rfl)
theorem dJ11_coder_14 : decode cJ11_coder 14 = .ok (.ireturn, 1) := dk_172 (dk_at dksJ11_coder_0 14 rfl rfl)
/-- java/lang/String.coder()B -/
def zb356 (G : zPg) (C : zO) (args : List Value) (Q : zQ) (Y : zY) (σ : zS) : Prop := ∃ (a0 : Nat), args = [.ref a0] ∧ (zJ (fun (p1 : Int32) (s2 : zS) => narrow .byte (.int p1) = .int p1 ∧ Q (some (.int p1)) s2) (fun (j3 : Int32 → zS → Prop) => (((1 : Int32) = 0) → j3 (1 : Int32) σ) ∧ ((¬ (1 : Int32) = 0) → zgI σ (some a0) 9 1 (fun v5 => j3 v5 σ))))
set_option maxHeartbeats 4000000 in
theorem wk356 {l : Launch} {g : zG} {d : Nat} {C : zO} (hG : zGk g) (hC : zSound l g d C) {args : List Value} {Q : zQ} {Y : zY} {σ : zS} (hw : zb356 (zpg g) C args Q Y σ) : zMet l g (d + 1) (⟨"java/lang/String", "coder", "()B"⟩, Cond.code ⟨"java/lang/String", "coder", "()B"⟩ prog_45_method_152_code 1 (Option.some FieldType.byte)) args σ Q Y := by
  obtain ⟨a0, rfl, hw⟩ := hw
  refine zof hG (by decide +kernel) [false] ⟨rfl, trivial⟩ (Nat.le_of_ble_eq_true rfl) (ls := [some (va_rf (some a0))]) rfl ?_
  intro X hX hR hTb hd1 hd2 hl hg hnm
  subst hl
  subst hg
  have hd : zDep X d := ⟨hd1, hd2⟩
  refine z_gets hX dJ11_coder_0 (List.mem_of_getElem? (i := 11) rfl) q1012 rfl ?_
  show zW _ _ _ _ (.int (1 : Int32) :: _)
  refine zJ_w (P := fun (j : Int32 → zS → Prop) => ∀ (p1 : Int32) (s2 : zS), j p1 s2 → zW X s2 14 [none] [.int p1]) hw (fun p1 s2 hw => ?_) (fun j3 hj3 hw => ?_)
  · exact z_ireturn hX hR dJ11_coder_14 hw.1 hw.2
  · refine z_if_eq hX dJ11_coder_3 (tgt := 13) rfl (fun c4 => ?_) (fun c4 => ?_)
    · have hw := hw.1 c4
      refine z_iconst hX (v := (1 : Int32)) dJ11_coder_13 (by decide) ?_
      refine z_sub (ls' := [none]) (zsN (zs0)) ?_
      exact hj3 _ _ hw
    · have hw := hw.2 c4
      refine z_aload_n hX dJ11_coder_6 rfl (i := 0) rfl ?_
      obtain ⟨a6, f7, v5, r8, m9, e10, hw⟩ := hw
      refine z_get hX zc9 (k := 1) dJ11_coder_7 (Nat.le_of_ble_eq_true rfl) (zlk hX q1328) r8 m9 e10 ?_
      refine z_goto hX dJ11_coder_10 (tgt := 14) rfl ?_
      refine z_sub (ls' := [none]) (zsN (zs0)) ?_
      exact hj3 _ _ hw
abbrev cJ11_charAt : ByteArray := prog_45_method_56_code
def yJ11_charAt : MethodName := ⟨RJ11, "charAt", "(I)C"⟩
def dkwJ11_charAt_1 : List UInt8 := [172]
abbrev dktJ11_charAt_1 : List UInt8 := dkwJ11_charAt_1 ++ []
def dkwJ11_charAt_0 : List UInt8 := [42, 182, 1, 236, 153, 0, 12, 42, 180, 0, 9, 27, 184, 1, 239, 172, 42, 180, 0, 9, 27, 184, 1, 242]
abbrev dktJ11_charAt_0 : List UInt8 := dkwJ11_charAt_0 ++ dktJ11_charAt_1
theorem dksJ11_charAt_0 : cJ11_charAt.data.toList.drop 0 = dktJ11_charAt_0 := by decide +kernel
theorem dksJ11_charAt_1 : cJ11_charAt.data.toList.drop 24 = dktJ11_charAt_1 := dk_seg dksJ11_charAt_0 24 rfl rfl
theorem dJ11_charAt_0 : decode cJ11_charAt 0 = .ok (.aload_n 0, 1) := dk_42 (dk_at dksJ11_charAt_0 0 rfl rfl)
theorem dJ11_charAt_1 : decode cJ11_charAt 1 = .ok (.invokevirtual 492, 3) := dk_182 1 236 (dk_at dksJ11_charAt_0 1 rfl rfl)
theorem dJ11_charAt_4 : decode cJ11_charAt 4 = .ok (.ifCond .eq 12, 3) := dk_153 0 12 (dk_at dksJ11_charAt_0 4 rfl rfl)
theorem dJ11_charAt_7 : decode cJ11_charAt 7 = .ok (.aload_n 0, 1) := dk_42 (dk_at dksJ11_charAt_0 7 rfl rfl)
theorem dJ11_charAt_8 : decode cJ11_charAt 8 = .ok (.getfield 9, 3) := dk_180 0 9 (dk_at dksJ11_charAt_0 8 rfl rfl)
theorem dJ11_charAt_11 : decode cJ11_charAt 11 = .ok (.iload_n 1, 1) := dk_27 (dk_at dksJ11_charAt_0 11 rfl rfl)
theorem dJ11_charAt_12 : decode cJ11_charAt 12 = .ok (.invokestatic 495, 3) := dk_184 1 239 (dk_at dksJ11_charAt_0 12 rfl rfl)
theorem dJ11_charAt_15 : decode cJ11_charAt 15 = .ok (.ireturn, 1) := dk_172 (dk_at dksJ11_charAt_0 15 rfl rfl)
theorem dJ11_charAt_16 : decode cJ11_charAt 16 = .ok (.aload_n 0, 1) := dk_42 (dk_at dksJ11_charAt_0 16 rfl rfl)
theorem dJ11_charAt_17 : decode cJ11_charAt 17 = .ok (.getfield 9, 3) := dk_180 0 9 (dk_at dksJ11_charAt_0 17 rfl rfl)
theorem dJ11_charAt_20 : decode cJ11_charAt 20 = .ok (.iload_n 1, 1) := dk_27 (dk_at dksJ11_charAt_0 20 rfl rfl)
theorem dJ11_charAt_21 : decode cJ11_charAt 21 = .ok (.invokestatic 498, 3) := dk_184 1 242 (dk_at dksJ11_charAt_0 21 rfl rfl)
theorem dJ11_charAt_24 : decode cJ11_charAt 24 = .ok (.ireturn, 1) := dk_172 (dk_at dksJ11_charAt_1 0 rfl rfl)
/-- java/lang/String.charAt(I)C -/
def zb357 (G : zPg) (C : zO) (args : List Value) (Q : zQ) (Y : zY) (σ : zS) : Prop := ∃ (a0 : Nat) (x1 : Int32), args = [.ref a0, .int x1] ∧ (zrc σ (some a0) 9 (fun a4 => zcl C 358 [.ref a4] Y σ (zqI (fun v1 s2 => ((v1 = 0) → zgR s2 (some a0) 9 0 (fun v9 => zcl C 370 [va_rf v9, .int x1] Y s2 (zqI (fun v15 s16 => narrow .char (.int v15) = .int v15 ∧ Q (some (.int v15)) s16)))) ∧ ((¬ v1 = 0) → zgR s2 (some a0) 9 0 (fun v18 => zcl C 414 [va_rf v18, .int x1] Y s2 (zqI (fun v24 s25 => narrow .char (.int v24) = .int v24 ∧ Q (some (.int v24)) s25))))))))
set_option maxHeartbeats 4000000 in
theorem wk357 {l : Launch} {g : zG} {d : Nat} {C : zO} (hG : zGk g) (hC : zSound l g d C) {args : List Value} {Q : zQ} {Y : zY} {σ : zS} (hw : zb357 (zpg g) C args Q Y σ) : zMet l g (d + 1) (⟨"java/lang/String", "charAt", "(I)C"⟩, Cond.code ⟨"java/lang/String", "charAt", "(I)C"⟩ prog_45_method_56_code 2 (Option.some FieldType.char)) args σ Q Y := by
  obtain ⟨a0, x1, rfl, hw⟩ := hw
  refine zof hG (by decide +kernel) [false, false] ⟨rfl, rfl, trivial⟩ (Nat.le_of_ble_eq_true rfl) (ls := [some (va_rf (some a0)), some (.int x1)]) rfl ?_
  intro X hX hR hTb hd1 hd2 hl hg hnm
  subst hl
  subst hg
  have hd : zDep X d := ⟨hd1, hd2⟩
  refine z_aload_n hX dJ11_charAt_0 rfl (i := 0) rfl ?_
  obtain ⟨a4, f5, r6, m7, hw⟩ := hw
  refine z_invV hX hd r6 (ci := 9) rfl rfl m7 dJ11_charAt_1 (hC 358 _ zm358 _ _ _ _ hw) q1021 q1022 q1023 zh17 q1024 q146 zn358 rfl (Nat.le_of_ble_eq_true rfl) (st := []) rfl (zcs8 (Nat.le_of_ble_eq_true rfl)) rfl (zkI (fun v1 s2 hw => ?_)) (zout hX hR hTb)
  refine z_if_eq hX dJ11_charAt_4 (tgt := 16) rfl (fun c8 => ?_) (fun c8 => ?_)
  · have hw := hw.1 c8
    refine z_aload_n hX dJ11_charAt_16 rfl (i := 0) rfl ?_
    obtain ⟨a10, f11, v9, r12, m13, e14, hw⟩ := hw
    refine z_get hX zc9 (k := 0) dJ11_charAt_17 (Nat.le_of_ble_eq_true rfl) (zlk hX q1327) r12 m13 e14 ?_
    refine z_iload_n hX dJ11_charAt_20 rfl (i := 1) rfl ?_
    refine z_invS hX hd dJ11_charAt_21 (hC 370 _ zm370 _ _ _ _ hw) q1034 q1035 zh18 q1036 q147 zn370 rfl (Nat.le_of_ble_eq_true rfl) (st := []) rfl (zcs8 (Nat.le_of_ble_eq_true rfl)) rfl (zkI (fun v15 s16 hw => ?_)) (zout hX hR hTb)
    exact z_ireturn hX hR dJ11_charAt_24 hw.1 hw.2
  · have hw := hw.2 c8
    refine z_aload_n hX dJ11_charAt_7 rfl (i := 0) rfl ?_
    obtain ⟨a19, f20, v18, r21, m22, e23, hw⟩ := hw
    refine z_get hX zc9 (k := 0) dJ11_charAt_8 (Nat.le_of_ble_eq_true rfl) (zlk hX q1327) r21 m22 e23 ?_
    refine z_iload_n hX dJ11_charAt_11 rfl (i := 1) rfl ?_
    refine z_invS hX hd dJ11_charAt_12 (hC 414 _ zm414 _ _ _ _ hw) q1025 q1026 zh21 q1027 q151 zn414 rfl (Nat.le_of_ble_eq_true rfl) (st := []) rfl (zcs8 (Nat.le_of_ble_eq_true rfl)) rfl (zkI (fun v24 s25 hw => ?_)) (zout hX hR hTb)
    exact z_ireturn hX hR dJ11_charAt_15 hw.1 hw.2
abbrev cJ11_isLatin1 : ByteArray := prog_45_method_154_code
def yJ11_isLatin1 : MethodName := ⟨RJ11, "isLatin1", "()Z"⟩
def dkwJ11_isLatin1_0 : List UInt8 := [178, 0, 38, 153, 0, 14, 42, 180, 0, 15, 154, 0, 7, 4, 167, 0, 4, 3, 172]
abbrev dktJ11_isLatin1_0 : List UInt8 := dkwJ11_isLatin1_0 ++ []
theorem dksJ11_isLatin1_0 : cJ11_isLatin1.data.toList.drop 0 = dktJ11_isLatin1_0 := by decide +kernel
theorem dJ11_isLatin1_0 : decode cJ11_isLatin1 0 = .ok (.getstatic 38, 3) := dk_178 0 38 (dk_at dksJ11_isLatin1_0 0 rfl rfl)
theorem dJ11_isLatin1_3 : decode cJ11_isLatin1 3 = .ok (.ifCond .eq 14, 3) := dk_153 0 14 (dk_at dksJ11_isLatin1_0 3 rfl rfl)
theorem dJ11_isLatin1_6 : decode cJ11_isLatin1 6 = .ok (.aload_n 0, 1) := dk_42 (dk_at dksJ11_isLatin1_0 6 rfl rfl)
theorem dJ11_isLatin1_7 : decode cJ11_isLatin1 7 = .ok (.getfield 15, 3) := dk_180 0 15 (dk_at dksJ11_isLatin1_0 7 rfl rfl)
theorem dJ11_isLatin1_10 : decode cJ11_isLatin1 10 = .ok (.ifCond .ne 7, 3) := dk_154 0 7 (dk_at dksJ11_isLatin1_0 10 rfl rfl)
theorem dJ11_isLatin1_13 : decode cJ11_isLatin1 13 = .ok (.iconst 1, 1) := dk_4 (dk_at dksJ11_isLatin1_0 13 rfl rfl)
theorem dJ11_isLatin1_14 : decode cJ11_isLatin1 14 = .ok (.goto 4, 3) := dk_167 0 4 (dk_at dksJ11_isLatin1_0 14 rfl rfl)
theorem dJ11_isLatin1_17 : decode cJ11_isLatin1 17 = .ok (.iconst 0, 1) := dk_3 (dk_at dksJ11_isLatin1_0 17 rfl rfl)
theorem dJ11_isLatin1_18 : decode cJ11_isLatin1 18 = .ok (.ireturn, 1) := dk_172 (dk_at dksJ11_isLatin1_0 18 rfl rfl)
/-- java/lang/String.isLatin1()Z -/
def zb358 (G : zPg) (C : zO) (args : List Value) (Q : zQ) (Y : zY) (σ : zS) : Prop := ∃ (a0 : Nat), args = [.ref a0] ∧ (zJ (fun (p1 : Int32) (s2 : zS) => zbool p1 ∧ Q (some (.int p1)) s2) (fun (j3 : Int32 → zS → Prop) => zJ (fun  (s4 : zS) => j3 (0 : Int32) s4) (fun (j5 : zS → Prop) => (((1 : Int32) = 0) → j5 σ) ∧ ((¬ (1 : Int32) = 0) → zgI σ (some a0) 9 1 (fun v7 => ((¬ v7 = 0) → j5 σ) ∧ ((v7 = 0) → j3 (1 : Int32) σ))))))
set_option maxHeartbeats 4000000 in
theorem wk358 {l : Launch} {g : zG} {d : Nat} {C : zO} (hG : zGk g) (hC : zSound l g d C) {args : List Value} {Q : zQ} {Y : zY} {σ : zS} (hw : zb358 (zpg g) C args Q Y σ) : zMet l g (d + 1) (⟨"java/lang/String", "isLatin1", "()Z"⟩, Cond.code ⟨"java/lang/String", "isLatin1", "()Z"⟩ prog_45_method_154_code 1 (Option.some FieldType.boolean)) args σ Q Y := by
  obtain ⟨a0, rfl, hw⟩ := hw
  refine zof hG (by decide +kernel) [false] ⟨rfl, trivial⟩ (Nat.le_of_ble_eq_true rfl) (ls := [some (va_rf (some a0))]) rfl ?_
  intro X hX hR hTb hd1 hd2 hl hg hnm
  subst hl
  subst hg
  have hd : zDep X d := ⟨hd1, hd2⟩
  refine z_gets hX dJ11_isLatin1_0 (List.mem_of_getElem? (i := 11) rfl) q1012 rfl ?_
  show zW _ _ _ _ (.int (1 : Int32) :: _)
  refine zJ_w (P := fun (j : Int32 → zS → Prop) => ∀ (p1 : Int32) (s2 : zS), j p1 s2 → zW X s2 18 [none] [.int p1]) hw (fun p1 s2 hw => ?_) (fun j3 hj3 hw => ?_)
  · exact z_ireturn hX hR dJ11_isLatin1_18 (zn_z hw.1) hw.2
  · refine zJ_w (P := fun (j : zS → Prop) => ∀  (s4 : zS), j  s4 → zW X s4 17 [none] []) hw (fun  s4 hw => ?_) (fun j5 hj5 hw => ?_)
    · refine z_iconst hX (v := (0 : Int32)) dJ11_isLatin1_17 (by decide) ?_
      exact hj3 _ _ hw
    · refine z_if_eq hX dJ11_isLatin1_3 (tgt := 17) rfl (fun c6 => ?_) (fun c6 => ?_)
      · have hw := hw.1 c6
        refine z_sub (ls' := [none]) (zsN (zs0)) ?_
        exact hj5  _ hw
      · have hw := hw.2 c6
        refine z_aload_n hX dJ11_isLatin1_6 rfl (i := 0) rfl ?_
        obtain ⟨a8, f9, v7, r10, m11, e12, hw⟩ := hw
        refine z_get hX zc9 (k := 1) dJ11_isLatin1_7 (Nat.le_of_ble_eq_true rfl) (zlk hX q1328) r10 m11 e12 ?_
        refine z_if_ne hX dJ11_isLatin1_10 (tgt := 17) rfl (fun c13 => ?_) (fun c13 => ?_)
        · have hw := hw.1 c13
          refine z_sub (ls' := [none]) (zsN (zs0)) ?_
          exact hj5  _ hw
        · have hw := hw.2 c13
          refine z_iconst hX (v := (1 : Int32)) dJ11_isLatin1_13 (by decide) ?_
          refine z_goto hX dJ11_isLatin1_14 (tgt := 18) rfl ?_
          refine z_sub (ls' := [none]) (zsN (zs0)) ?_
          exact hj3 _ _ hw
abbrev cJ11_checkIndex : ByteArray := prog_45_method_155_code
def yJ11_checkIndex : MethodName := ⟨RJ11, "checkIndex", "(II)V"⟩
def dkwJ11_checkIndex_0 : List UInt8 := [26, 27, 178, 4, 29, 184, 4, 35, 87, 177]
abbrev dktJ11_checkIndex_0 : List UInt8 := dkwJ11_checkIndex_0 ++ []
theorem dksJ11_checkIndex_0 : cJ11_checkIndex.data.toList.drop 0 = dktJ11_checkIndex_0 := by decide +kernel
theorem dJ11_checkIndex_0 : decode cJ11_checkIndex 0 = .ok (.iload_n 0, 1) := dk_26 (dk_at dksJ11_checkIndex_0 0 rfl rfl)
theorem dJ11_checkIndex_1 : decode cJ11_checkIndex 1 = .ok (.iload_n 1, 1) := dk_27 (dk_at dksJ11_checkIndex_0 1 rfl rfl)
theorem dJ11_checkIndex_2 : decode cJ11_checkIndex 2 = .ok (.getstatic 1053, 3) := dk_178 4 29 (dk_at dksJ11_checkIndex_0 2 rfl rfl)
theorem dJ11_checkIndex_5 : decode cJ11_checkIndex 5 = .ok (.invokestatic 1059, 3) := dk_184 4 35 (dk_at dksJ11_checkIndex_0 5 rfl rfl)
theorem dJ11_checkIndex_8 : decode cJ11_checkIndex 8 = .ok (.pop, 1) := dk_87 (dk_at dksJ11_checkIndex_0 8 rfl rfl)
theorem dJ11_checkIndex_9 : decode cJ11_checkIndex 9 = .ok (.return_, 1) := dk_177 (dk_at dksJ11_checkIndex_0 9 rfl rfl)
/-- java/lang/String.checkIndex(II)V -/
def zb359 (G : zPg) (C : zO) (args : List Value) (Q : zQ) (Y : zY) (σ : zS) : Prop := ∃ (x1 : Int32) (x2 : Int32), args = [.int x1, .int x2] ∧ (zcl C 427 [.int x1, .int x2, va_rf (zopt (G.2 62))] Y σ (zqI (fun v1 s2 => Q none s2)))
set_option maxHeartbeats 4000000 in
theorem wk359 {l : Launch} {g : zG} {d : Nat} {C : zO} (hG : zGk g) (hC : zSound l g d C) {args : List Value} {Q : zQ} {Y : zY} {σ : zS} (hw : zb359 (zpg g) C args Q Y σ) : zMet l g (d + 1) (⟨"java/lang/String", "checkIndex", "(II)V"⟩, Cond.code ⟨"java/lang/String", "checkIndex", "(II)V"⟩ prog_45_method_155_code 2 (Option.none : Option FieldType)) args σ Q Y := by
  obtain ⟨x1, x2, rfl, hw⟩ := hw
  refine zof hG (by decide +kernel) [false, false] ⟨rfl, rfl, trivial⟩ (Nat.le_of_ble_eq_true rfl) (ls := [some (.int x1), some (.int x2)]) rfl ?_
  intro X hX hR hTb hd1 hd2 hl hg hnm
  subst hl
  subst hg
  have hd : zDep X d := ⟨hd1, hd2⟩
  refine z_iload_n hX dJ11_checkIndex_0 rfl (i := 0) rfl ?_
  refine z_iload_n hX dJ11_checkIndex_1 rfl (i := 1) rfl ?_
  refine z_gets hX dJ11_checkIndex_2 (List.mem_of_getElem? (i := 12) rfl) q1031 rfl ?_
  show zW _ _ _ _ (va_rf (zopt (X.g.2.2.2 62)) :: _)
  refine z_invS hX hd dJ11_checkIndex_5 (hC 427 _ zm427 _ _ _ _ hw) q1033 q379 zh22 q380 q152 zn427 rfl (Nat.le_of_ble_eq_true rfl) (st := []) rfl (zcs8 (Nat.le_of_ble_eq_true rfl)) rfl (zkI (fun v1 s2 hw => ?_)) (zout hX hR hTb)
  refine z_pop hX dJ11_checkIndex_8 rfl ?_
  exact z_return hX hR dJ11_checkIndex_9 hw
abbrev cJ11_checkBoundsBeginEnd : ByteArray := prog_45_method_158_code
def yJ11_checkBoundsBeginEnd : MethodName := ⟨RJ11, "checkBoundsBeginEnd", "(III)V"⟩
def dkwJ11_checkBoundsBeginEnd_0 : List UInt8 := [26, 27, 28, 178, 4, 29, 184, 4, 38, 87, 177]
abbrev dktJ11_checkBoundsBeginEnd_0 : List UInt8 := dkwJ11_checkBoundsBeginEnd_0 ++ []
theorem dksJ11_checkBoundsBeginEnd_0 : cJ11_checkBoundsBeginEnd.data.toList.drop 0 = dktJ11_checkBoundsBeginEnd_0 := by decide +kernel
theorem dJ11_checkBoundsBeginEnd_0 : decode cJ11_checkBoundsBeginEnd 0 = .ok (.iload_n 0, 1) := dk_26 (dk_at dksJ11_checkBoundsBeginEnd_0 0 rfl rfl)
theorem dJ11_checkBoundsBeginEnd_1 : decode cJ11_checkBoundsBeginEnd 1 = .ok (.iload_n 1, 1) := dk_27 (dk_at dksJ11_checkBoundsBeginEnd_0 1 rfl rfl)
theorem dJ11_checkBoundsBeginEnd_2 : decode cJ11_checkBoundsBeginEnd 2 = .ok (.iload_n 2, 1) := dk_28 (dk_at dksJ11_checkBoundsBeginEnd_0 2 rfl rfl)
theorem dJ11_checkBoundsBeginEnd_3 : decode cJ11_checkBoundsBeginEnd 3 = .ok (.getstatic 1053, 3) := dk_178 4 29 (dk_at dksJ11_checkBoundsBeginEnd_0 3 rfl rfl)
theorem dJ11_checkBoundsBeginEnd_6 : decode cJ11_checkBoundsBeginEnd 6 = .ok (.invokestatic 1062, 3) := dk_184 4 38 (dk_at dksJ11_checkBoundsBeginEnd_0 6 rfl rfl)
theorem dJ11_checkBoundsBeginEnd_9 : decode cJ11_checkBoundsBeginEnd 9 = .ok (.pop, 1) := dk_87 (dk_at dksJ11_checkBoundsBeginEnd_0 9 rfl rfl)
theorem dJ11_checkBoundsBeginEnd_10 : decode cJ11_checkBoundsBeginEnd 10 = .ok (.return_, 1) := dk_177 (dk_at dksJ11_checkBoundsBeginEnd_0 10 rfl rfl)
/-- java/lang/String.checkBoundsBeginEnd(III)V -/
def zb360 (G : zPg) (C : zO) (args : List Value) (Q : zQ) (Y : zY) (σ : zS) : Prop := ∃ (x1 : Int32) (x2 : Int32) (x3 : Int32), args = [.int x1, .int x2, .int x3] ∧ (zcl C 428 [.int x1, .int x2, .int x3, va_rf (zopt (G.2 62))] Y σ (zqI (fun v1 s2 => Q none s2)))
set_option maxHeartbeats 4000000 in
theorem wk360 {l : Launch} {g : zG} {d : Nat} {C : zO} (hG : zGk g) (hC : zSound l g d C) {args : List Value} {Q : zQ} {Y : zY} {σ : zS} (hw : zb360 (zpg g) C args Q Y σ) : zMet l g (d + 1) (⟨"java/lang/String", "checkBoundsBeginEnd", "(III)V"⟩, Cond.code ⟨"java/lang/String", "checkBoundsBeginEnd", "(III)V"⟩ prog_45_method_158_code 3 (Option.none : Option FieldType)) args σ Q Y := by
  obtain ⟨x1, x2, x3, rfl, hw⟩ := hw
  refine zof hG (by decide +kernel) [false, false, false] ⟨rfl, rfl, rfl, trivial⟩ (Nat.le_of_ble_eq_true rfl) (ls := [some (.int x1), some (.int x2), some (.int x3)]) rfl ?_
  intro X hX hR hTb hd1 hd2 hl hg hnm
  subst hl
  subst hg
  have hd : zDep X d := ⟨hd1, hd2⟩
  refine z_iload_n hX dJ11_checkBoundsBeginEnd_0 rfl (i := 0) rfl ?_
  refine z_iload_n hX dJ11_checkBoundsBeginEnd_1 rfl (i := 1) rfl ?_
  refine z_iload_n hX dJ11_checkBoundsBeginEnd_2 rfl (i := 2) rfl ?_
  refine z_gets hX dJ11_checkBoundsBeginEnd_3 (List.mem_of_getElem? (i := 12) rfl) q1031 rfl ?_
  show zW _ _ _ _ (va_rf (zopt (X.g.2.2.2 62)) :: _)
  refine z_invS hX hd dJ11_checkBoundsBeginEnd_6 (hC 428 _ zm428 _ _ _ _ hw) q1200 q1201 zh22 q1202 q152 zn428 rfl (Nat.le_of_ble_eq_true rfl) (st := []) rfl (zcs8 (Nat.le_of_ble_eq_true rfl)) rfl (zkI (fun v1 s2 hw => ?_)) (zout hX hR hTb)
  refine z_pop hX dJ11_checkBoundsBeginEnd_9 rfl ?_
  exact z_return hX hR dJ11_checkBoundsBeginEnd_10 hw
abbrev cJ11_checkBoundsOffCount : ByteArray := prog_45_method_157_code
def yJ11_checkBoundsOffCount : MethodName := ⟨RJ11, "checkBoundsOffCount", "(III)I"⟩
def dkwJ11_checkBoundsOffCount_0 : List UInt8 := [26, 27, 28, 178, 4, 29, 184, 4, 41, 172]
abbrev dktJ11_checkBoundsOffCount_0 : List UInt8 := dkwJ11_checkBoundsOffCount_0 ++ []
theorem dksJ11_checkBoundsOffCount_0 : cJ11_checkBoundsOffCount.data.toList.drop 0 = dktJ11_checkBoundsOffCount_0 := by decide +kernel
theorem dJ11_checkBoundsOffCount_0 : decode cJ11_checkBoundsOffCount 0 = .ok (.iload_n 0, 1) := dk_26 (dk_at dksJ11_checkBoundsOffCount_0 0 rfl rfl)
theorem dJ11_checkBoundsOffCount_1 : decode cJ11_checkBoundsOffCount 1 = .ok (.iload_n 1, 1) := dk_27 (dk_at dksJ11_checkBoundsOffCount_0 1 rfl rfl)
theorem dJ11_checkBoundsOffCount_2 : decode cJ11_checkBoundsOffCount 2 = .ok (.iload_n 2, 1) := dk_28 (dk_at dksJ11_checkBoundsOffCount_0 2 rfl rfl)
theorem dJ11_checkBoundsOffCount_3 : decode cJ11_checkBoundsOffCount 3 = .ok (.getstatic 1053, 3) := dk_178 4 29 (dk_at dksJ11_checkBoundsOffCount_0 3 rfl rfl)
theorem dJ11_checkBoundsOffCount_6 : decode cJ11_checkBoundsOffCount 6 = .ok (.invokestatic 1065, 3) := dk_184 4 41 (dk_at dksJ11_checkBoundsOffCount_0 6 rfl rfl)
theorem dJ11_checkBoundsOffCount_9 : decode cJ11_checkBoundsOffCount 9 = .ok (.ireturn, 1) := dk_172 (dk_at dksJ11_checkBoundsOffCount_0 9 rfl rfl)
/-- java/lang/String.checkBoundsOffCount(III)I -/
def zb361 (G : zPg) (C : zO) (args : List Value) (Q : zQ) (Y : zY) (σ : zS) : Prop := ∃ (x1 : Int32) (x2 : Int32) (x3 : Int32), args = [.int x1, .int x2, .int x3] ∧ (zcl C 429 [.int x1, .int x2, .int x3, va_rf (zopt (G.2 62))] Y σ (zqI (fun v1 s2 => Q (some (.int v1)) s2)))
set_option maxHeartbeats 4000000 in
theorem wk361 {l : Launch} {g : zG} {d : Nat} {C : zO} (hG : zGk g) (hC : zSound l g d C) {args : List Value} {Q : zQ} {Y : zY} {σ : zS} (hw : zb361 (zpg g) C args Q Y σ) : zMet l g (d + 1) (⟨"java/lang/String", "checkBoundsOffCount", "(III)I"⟩, Cond.code ⟨"java/lang/String", "checkBoundsOffCount", "(III)I"⟩ prog_45_method_157_code 3 (Option.some FieldType.int)) args σ Q Y := by
  obtain ⟨x1, x2, x3, rfl, hw⟩ := hw
  refine zof hG (by decide +kernel) [false, false, false] ⟨rfl, rfl, rfl, trivial⟩ (Nat.le_of_ble_eq_true rfl) (ls := [some (.int x1), some (.int x2), some (.int x3)]) rfl ?_
  intro X hX hR hTb hd1 hd2 hl hg hnm
  subst hl
  subst hg
  have hd : zDep X d := ⟨hd1, hd2⟩
  refine z_iload_n hX dJ11_checkBoundsOffCount_0 rfl (i := 0) rfl ?_
  refine z_iload_n hX dJ11_checkBoundsOffCount_1 rfl (i := 1) rfl ?_
  refine z_iload_n hX dJ11_checkBoundsOffCount_2 rfl (i := 2) rfl ?_
  refine z_gets hX dJ11_checkBoundsOffCount_3 (List.mem_of_getElem? (i := 12) rfl) q1031 rfl ?_
  show zW _ _ _ _ (va_rf (zopt (X.g.2.2.2 62)) :: _)
  refine z_invS hX hd dJ11_checkBoundsOffCount_6 (hC 429 _ zm429 _ _ _ _ hw) q1232 q1233 zh22 q1234 q152 zn429 rfl (Nat.le_of_ble_eq_true rfl) (st := []) rfl (zcs8 (Nat.le_of_ble_eq_true rfl)) rfl (zkI (fun v1 s2 hw => ?_)) (zout hX hR hTb)
  exact z_ireturn hX hR dJ11_checkBoundsOffCount_9 rfl hw
abbrev cJ11_getBytes : ByteArray := prog_45_method_147_code
def yJ11_getBytes : MethodName := ⟨RJ11, "getBytes", "([BIB)V"⟩
def dkwJ11_getBytes_1 : List UInt8 := [184, 0, 212, 167, 0, 18, 42, 180, 0, 9, 3, 43, 28, 42, 180, 0, 9, 190, 184, 0, 106, 177]
abbrev dktJ11_getBytes_1 : List UInt8 := dkwJ11_getBytes_1 ++ []
def dkwJ11_getBytes_0 : List UInt8 := [42, 182, 1, 79, 29, 160, 0, 23, 42, 180, 0, 9, 3, 43, 28, 29, 120, 42, 180, 0, 9, 190]
abbrev dktJ11_getBytes_0 : List UInt8 := dkwJ11_getBytes_0 ++ dktJ11_getBytes_1
theorem dksJ11_getBytes_0 : cJ11_getBytes.data.toList.drop 0 = dktJ11_getBytes_0 := by decide +kernel
theorem dksJ11_getBytes_1 : cJ11_getBytes.data.toList.drop 22 = dktJ11_getBytes_1 := dk_seg dksJ11_getBytes_0 22 rfl rfl
theorem dJ11_getBytes_0 : decode cJ11_getBytes 0 = .ok (.aload_n 0, 1) := dk_42 (dk_at dksJ11_getBytes_0 0 rfl rfl)
theorem dJ11_getBytes_1 : decode cJ11_getBytes 1 = .ok (.invokevirtual 335, 3) := dk_182 1 79 (dk_at dksJ11_getBytes_0 1 rfl rfl)
theorem dJ11_getBytes_4 : decode cJ11_getBytes 4 = .ok (.iload_n 3, 1) := dk_29 (dk_at dksJ11_getBytes_0 4 rfl rfl)
theorem dJ11_getBytes_5 : decode cJ11_getBytes 5 = .ok (.if_icmp .ne 23, 3) := dk_160 0 23 (dk_at dksJ11_getBytes_0 5 rfl rfl)
theorem dJ11_getBytes_8 : decode cJ11_getBytes 8 = .ok (.aload_n 0, 1) := dk_42 (dk_at dksJ11_getBytes_0 8 rfl rfl)
theorem dJ11_getBytes_9 : decode cJ11_getBytes 9 = .ok (.getfield 9, 3) := dk_180 0 9 (dk_at dksJ11_getBytes_0 9 rfl rfl)
theorem dJ11_getBytes_12 : decode cJ11_getBytes 12 = .ok (.iconst 0, 1) := dk_3 (dk_at dksJ11_getBytes_0 12 rfl rfl)
theorem dJ11_getBytes_13 : decode cJ11_getBytes 13 = .ok (.aload_n 1, 1) := dk_43 (dk_at dksJ11_getBytes_0 13 rfl rfl)
theorem dJ11_getBytes_14 : decode cJ11_getBytes 14 = .ok (.iload_n 2, 1) := dk_28 (dk_at dksJ11_getBytes_0 14 rfl rfl)
theorem dJ11_getBytes_15 : decode cJ11_getBytes 15 = .ok (.iload_n 3, 1) := dk_29 (dk_at dksJ11_getBytes_0 15 rfl rfl)
theorem dJ11_getBytes_16 : decode cJ11_getBytes 16 = .ok (.ishl, 1) := dk_120 (dk_at dksJ11_getBytes_0 16 rfl rfl)
theorem dJ11_getBytes_17 : decode cJ11_getBytes 17 = .ok (.aload_n 0, 1) := dk_42 (dk_at dksJ11_getBytes_0 17 rfl rfl)
theorem dJ11_getBytes_18 : decode cJ11_getBytes 18 = .ok (.getfield 9, 3) := dk_180 0 9 (dk_at dksJ11_getBytes_0 18 rfl rfl)
theorem dJ11_getBytes_21 : decode cJ11_getBytes 21 = .ok (.arraylength, 1) := dk_190 (dk_at dksJ11_getBytes_0 21 rfl rfl)
theorem dJ11_getBytes_22 : decode cJ11_getBytes 22 = .ok (.invokestatic 212, 3) := dk_184 0 212 (dk_at dksJ11_getBytes_1 0 rfl rfl)
theorem dJ11_getBytes_25 : decode cJ11_getBytes 25 = .ok (.goto 18, 3) := dk_167 0 18 (dk_at dksJ11_getBytes_1 3 rfl rfl)
theorem dJ11_getBytes_28 : decode cJ11_getBytes 28 = .ok (.aload_n 0, 1) := dk_42 (dk_at dksJ11_getBytes_1 6 rfl rfl)
theorem dJ11_getBytes_29 : decode cJ11_getBytes 29 = .ok (.getfield 9, 3) := dk_180 0 9 (dk_at dksJ11_getBytes_1 7 rfl rfl)
theorem dJ11_getBytes_32 : decode cJ11_getBytes 32 = .ok (.iconst 0, 1) := dk_3 (dk_at dksJ11_getBytes_1 10 rfl rfl)
theorem dJ11_getBytes_33 : decode cJ11_getBytes 33 = .ok (.aload_n 1, 1) := dk_43 (dk_at dksJ11_getBytes_1 11 rfl rfl)
theorem dJ11_getBytes_34 : decode cJ11_getBytes 34 = .ok (.iload_n 2, 1) := dk_28 (dk_at dksJ11_getBytes_1 12 rfl rfl)
theorem dJ11_getBytes_35 : decode cJ11_getBytes 35 = .ok (.aload_n 0, 1) := dk_42 (dk_at dksJ11_getBytes_1 13 rfl rfl)
theorem dJ11_getBytes_36 : decode cJ11_getBytes 36 = .ok (.getfield 9, 3) := dk_180 0 9 (dk_at dksJ11_getBytes_1 14 rfl rfl)
theorem dJ11_getBytes_39 : decode cJ11_getBytes 39 = .ok (.arraylength, 1) := dk_190 (dk_at dksJ11_getBytes_1 17 rfl rfl)
theorem dJ11_getBytes_40 : decode cJ11_getBytes 40 = .ok (.invokestatic 106, 3) := dk_184 0 106 (dk_at dksJ11_getBytes_1 18 rfl rfl)
theorem dJ11_getBytes_43 : decode cJ11_getBytes 43 = .ok (.return_, 1) := dk_177 (dk_at dksJ11_getBytes_1 21 rfl rfl)
/-- java/lang/String.getBytes([BIB)V -/
def zb362 (G : zPg) (C : zO) (args : List Value) (Q : zQ) (Y : zY) (σ : zS) : Prop := ∃ (a0 : Nat) (x1 : Option Nat) (x2 : Int32) (x3 : Int32), args = [.ref a0, va_rf x1, .int x2, .int x3] ∧ (zrc σ (some a0) 9 (fun a4 => zcl C 356 [.ref a4] Y σ (zqI (fun v1 s2 => zJ (fun  (s8 : zS) => Q none s8) (fun (j9 : zS → Prop) => ((¬ v1 = x3) → zgR s2 (some a0) 9 0 (fun v11 => zgR s2 (some a0) 9 0 (fun v17 => zln s2 2 v17 (fun v27 => zcl C 416 [va_rf v11, .int (0 : Int32), va_rf x1, .int x2, .int v27] Y s2 (zqV (fun s30 => j9 s30)))))) ∧ ((v1 = x3) → zgR s2 (some a0) 9 0 (fun v32 => zgR s2 (some a0) 9 0 (fun v38 => zln s2 2 v38 (fun v48 => zacp s2 G.1 2 [] v32 (0 : Int32) x1 (x2 <<< (x3 &&& 31)) v48 (fun s50 => j9 s50))))))))))
set_option maxHeartbeats 4000000 in
theorem wk362 {l : Launch} {g : zG} {d : Nat} {C : zO} (hG : zGk g) (hC : zSound l g d C) {args : List Value} {Q : zQ} {Y : zY} {σ : zS} (hw : zb362 (zpg g) C args Q Y σ) : zMet l g (d + 1) (⟨"java/lang/String", "getBytes", "([BIB)V"⟩, Cond.code ⟨"java/lang/String", "getBytes", "([BIB)V"⟩ prog_45_method_147_code 4 (Option.none : Option FieldType)) args σ Q Y := by
  obtain ⟨a0, x1, x2, x3, rfl, hw⟩ := hw
  refine zof hG (by decide +kernel) [false, false, false, false] ⟨rfl, (zc_rf _), rfl, rfl, trivial⟩ (Nat.le_of_ble_eq_true rfl) (ls := [some (va_rf (some a0)), some (va_rf x1), some (.int x2), some (.int x3)]) rfl ?_
  intro X hX hR hTb hd1 hd2 hl hg hnm
  subst hl
  subst hg
  have hd : zDep X d := ⟨hd1, hd2⟩
  refine z_aload_n hX dJ11_getBytes_0 rfl (i := 0) rfl ?_
  obtain ⟨a4, f5, r6, m7, hw⟩ := hw
  refine z_invV hX hd r6 (ci := 9) rfl rfl m7 dJ11_getBytes_1 (hC 356 _ zm356 _ _ _ _ hw) q1008 q1009 q1010 zh17 q1011 q146 zn356 rfl (Nat.le_of_ble_eq_true rfl) (st := []) rfl (zcs8 (Nat.le_of_ble_eq_true rfl)) rfl (zkI (fun v1 s2 hw => ?_)) (zout hX hR hTb)
  refine z_iload_n hX dJ11_getBytes_4 rfl (i := 3) rfl ?_
  refine zJ_w (P := fun (j : zS → Prop) => ∀  (s8 : zS), j  s8 → zW X s8 43 [none, none, none, none] []) hw (fun  s8 hw => ?_) (fun j9 hj9 hw => ?_)
  · exact z_return hX hR dJ11_getBytes_43 hw
  · refine z_icmp_ne hX dJ11_getBytes_5 (tgt := 28) rfl (fun c10 => ?_) (fun c10 => ?_)
    · have hw := hw.1 c10
      refine z_aload_n hX dJ11_getBytes_28 rfl (i := 0) rfl ?_
      obtain ⟨a12, f13, v11, r14, m15, e16, hw⟩ := hw
      refine z_get hX zc9 (k := 0) dJ11_getBytes_29 (Nat.le_of_ble_eq_true rfl) (zlk hX q1327) r14 m15 e16 ?_
      refine z_iconst hX (v := (0 : Int32)) dJ11_getBytes_32 (by decide) ?_
      refine z_aload_n hX dJ11_getBytes_33 rfl (i := 1) rfl ?_
      refine z_iload_n hX dJ11_getBytes_34 rfl (i := 2) rfl ?_
      refine z_aload_n hX dJ11_getBytes_35 rfl (i := 0) rfl ?_
      obtain ⟨a18, f19, v17, r20, m21, e22, hw⟩ := hw
      refine z_get hX zc9 (k := 0) dJ11_getBytes_36 (Nat.le_of_ble_eq_true rfl) (zlk hX q1327) r20 m21 e22 ?_
      obtain ⟨a23, n24, r25, m26, hw⟩ := hw
      refine z_alen hX 2 dJ11_getBytes_39 r25 m26 ?_
      revert hw
      generalize nI n24.1 = v27
      intro hw
      refine z_invS hX hd dJ11_getBytes_40 (hC 416 _ zm416 _ _ _ _ hw) q1240 q1221 zh21 q1222 q151 zn416 rfl (Nat.le_of_ble_eq_true rfl) (st := []) rfl (zcs8 (Nat.le_of_ble_eq_true rfl)) rfl (zkV (fun s30 hw => ?_)) (zout hX hR hTb)
      refine z_sub (ls' := [none, none, none, none]) (zsN (zsN (zsN (zsN (zs0))))) ?_
      exact hj9  _ hw
    · have hw := hw.2 c10
      refine z_aload_n hX dJ11_getBytes_8 rfl (i := 0) rfl ?_
      obtain ⟨a33, f34, v32, r35, m36, e37, hw⟩ := hw
      refine z_get hX zc9 (k := 0) dJ11_getBytes_9 (Nat.le_of_ble_eq_true rfl) (zlk hX q1327) r35 m36 e37 ?_
      refine z_iconst hX (v := (0 : Int32)) dJ11_getBytes_12 (by decide) ?_
      refine z_aload_n hX dJ11_getBytes_13 rfl (i := 1) rfl ?_
      refine z_iload_n hX dJ11_getBytes_14 rfl (i := 2) rfl ?_
      refine z_iload_n hX dJ11_getBytes_15 rfl (i := 3) rfl ?_
      refine z_ishl hX dJ11_getBytes_16 ?_
      refine z_aload_n hX dJ11_getBytes_17 rfl (i := 0) rfl ?_
      obtain ⟨a39, f40, v38, r41, m42, e43, hw⟩ := hw
      refine z_get hX zc9 (k := 0) dJ11_getBytes_18 (Nat.le_of_ble_eq_true rfl) (zlk hX q1327) r41 m42 e43 ?_
      obtain ⟨a44, n45, r46, m47, hw⟩ := hw
      refine z_alen hX 2 dJ11_getBytes_21 r46 m47 ?_
      revert hw
      generalize nI n45.1 = v48
      intro hw
      refine z_acp hX hd 2 dJ11_getBytes_22 q1239 q835 q834 q150 (E := "") (Or.inl rfl) hw rfl (zcs8 (Nat.le_of_ble_eq_true rfl)) (fun s50 hw => ?_)
      refine z_goto hX dJ11_getBytes_25 (tgt := 43) rfl ?_
      refine z_sub (ls' := [none, none, none, none]) (zsN (zsN (zsN (zsN (zs0))))) ?_
      exact hj9  _ hw
abbrev cJ11_init : ByteArray := prog_45_method_53_code
def yJ11_init : MethodName := ⟨RJ11, "<init>", "(Ljava/lang/StringBuilder;)V"⟩
def dkwJ11_init_0 : List UInt8 := [42, 43, 1, 183, 1, 233, 177]
abbrev dktJ11_init_0 : List UInt8 := dkwJ11_init_0 ++ []
theorem dksJ11_init_0 : cJ11_init.data.toList.drop 0 = dktJ11_init_0 := by decide +kernel
theorem dJ11_init_0 : decode cJ11_init 0 = .ok (.aload_n 0, 1) := dk_42 (dk_at dksJ11_init_0 0 rfl rfl)
theorem dJ11_init_1 : decode cJ11_init 1 = .ok (.aload_n 1, 1) := dk_43 (dk_at dksJ11_init_0 1 rfl rfl)
theorem dJ11_init_2 : decode cJ11_init 2 = .ok (.aconst_null, 1) := dk_1 (dk_at dksJ11_init_0 2 rfl rfl)
theorem dJ11_init_3 : decode cJ11_init 3 = .ok (.invokespecial 489, 3) := dk_183 1 233 (dk_at dksJ11_init_0 3 rfl rfl)
theorem dJ11_init_6 : decode cJ11_init 6 = .ok (.return_, 1) := dk_177 (dk_at dksJ11_init_0 6 rfl rfl)
/-- java/lang/String.<init>(Ljava/lang/StringBuilder;)V -/
def zb363 (G : zPg) (C : zO) (args : List Value) (Q : zQ) (Y : zY) (σ : zS) : Prop := ∃ (a0 : Nat) (x1 : Option Nat), args = [.ref a0, va_rf x1] ∧ ((∃ a4, (some a0) = some a4 ∧ zcl C 364 [.ref a4, va_rf x1, va_rf none] Y σ (zqV (fun s2 => Q none s2))))
set_option maxHeartbeats 4000000 in
theorem wk363 {l : Launch} {g : zG} {d : Nat} {C : zO} (hG : zGk g) (hC : zSound l g d C) {args : List Value} {Q : zQ} {Y : zY} {σ : zS} (hw : zb363 (zpg g) C args Q Y σ) : zMet l g (d + 1) (⟨"java/lang/String", "<init>", "(Ljava/lang/StringBuilder;)V"⟩, Cond.code ⟨"java/lang/String", "<init>", "(Ljava/lang/StringBuilder;)V"⟩ prog_45_method_53_code 2 (Option.none : Option FieldType)) args σ Q Y := by
  obtain ⟨a0, x1, rfl, hw⟩ := hw
  refine zof hG (by decide +kernel) [false, false] ⟨rfl, (zc_rf _), trivial⟩ (Nat.le_of_ble_eq_true rfl) (ls := [some (va_rf (some a0)), some (va_rf x1)]) rfl ?_
  intro X hX hR hTb hd1 hd2 hl hg hnm
  subst hl
  subst hg
  have hd : zDep X d := ⟨hd1, hd2⟩
  refine z_aload_n hX dJ11_init_0 rfl (i := 0) rfl ?_
  refine z_aload_n hX dJ11_init_1 rfl (i := 1) rfl ?_
  refine z_null hX dJ11_init_2 ?_
  obtain ⟨a4, r5, hw⟩ := hw
  refine z_invI hX hd r5 dJ11_init_3 (hC 364 _ zm364 _ _ _ _ hw) q1277 q1278 rfl zh17 q1279 q146 zn364 rfl (Nat.le_of_ble_eq_true rfl) (st := []) rfl (zcs8 (Nat.le_of_ble_eq_true rfl)) rfl (zkV (fun s2 hw => ?_)) (zout hX hR hTb)
  exact z_return hX hR dJ11_init_6 hw
abbrev cJ11_init_2 : ByteArray := prog_45_method_150_code
def yJ11_init_2 : MethodName := ⟨RJ11, "<init>", "(Ljava/lang/AbstractStringBuilder;Ljava/lang/Void;)V"⟩
def dkwJ11_init_2_4 : List UInt8 := [181, 0, 9, 177]
abbrev dktJ11_init_2_4 : List UInt8 := dkwJ11_init_2_4 ++ []
def dkwJ11_init_2_3 : List UInt8 := [184, 0, 47, 181, 0, 15, 177, 42, 4, 181, 0, 15, 42, 45, 3, 21, 4, 4, 120, 184, 0, 54]
abbrev dktJ11_init_2_3 : List UInt8 := dkwJ11_init_2_3 ++ dktJ11_init_2_4
def dkwJ11_init_2_2 : List UInt8 := [180, 4, 24, 153, 0, 28, 42, 45, 3, 21, 4, 184, 4, 27, 181, 0, 9, 42, 42, 180, 0, 9, 21, 4]
abbrev dktJ11_init_2_2 : List UInt8 := dkwJ11_init_2_2 ++ dktJ11_init_2_3
def dkwJ11_init_2_1 : List UInt8 := [181, 0, 15, 42, 45, 3, 21, 4, 184, 0, 54, 181, 0, 9, 167, 0, 59, 178, 0, 38, 153, 0, 35, 43]
abbrev dktJ11_init_2_1 : List UInt8 := dkwJ11_init_2_1 ++ dktJ11_init_2_2
def dkwJ11_init_2_0 : List UInt8 := [42, 183, 0, 1, 43, 182, 2, 40, 78, 43, 182, 2, 37, 54, 4, 43, 182, 4, 23, 153, 0, 22, 42, 3]
abbrev dktJ11_init_2_0 : List UInt8 := dkwJ11_init_2_0 ++ dktJ11_init_2_1
theorem dksJ11_init_2_0 : cJ11_init_2.data.toList.drop 0 = dktJ11_init_2_0 := by decide +kernel
theorem dksJ11_init_2_1 : cJ11_init_2.data.toList.drop 24 = dktJ11_init_2_1 := dk_seg dksJ11_init_2_0 24 rfl rfl
theorem dksJ11_init_2_2 : cJ11_init_2.data.toList.drop 48 = dktJ11_init_2_2 := dk_seg dksJ11_init_2_1 24 rfl rfl
theorem dksJ11_init_2_3 : cJ11_init_2.data.toList.drop 72 = dktJ11_init_2_3 := dk_seg dksJ11_init_2_2 24 rfl rfl
theorem dksJ11_init_2_4 : cJ11_init_2.data.toList.drop 94 = dktJ11_init_2_4 := dk_seg dksJ11_init_2_3 22 rfl rfl
theorem dJ11_init_2_0 : decode cJ11_init_2 0 = .ok (.aload_n 0, 1) := dk_42 (dk_at dksJ11_init_2_0 0 rfl rfl)
theorem dJ11_init_2_1 : decode cJ11_init_2 1 = .ok (.invokespecial 1, 3) := dk_183 0 1 (dk_at dksJ11_init_2_0 1 rfl rfl)
theorem dJ11_init_2_4 : decode cJ11_init_2 4 = .ok (.aload_n 1, 1) := dk_43 (dk_at dksJ11_init_2_0 4 rfl rfl)
theorem dJ11_init_2_5 : decode cJ11_init_2 5 = .ok (.invokevirtual 552, 3) := dk_182 2 40 (dk_at dksJ11_init_2_0 5 rfl rfl)
theorem dJ11_init_2_8 : decode cJ11_init_2 8 = .ok (.astore_n 3, 1) := dk_78 (dk_at dksJ11_init_2_0 8 rfl rfl)
theorem dJ11_init_2_9 : decode cJ11_init_2 9 = .ok (.aload_n 1, 1) := dk_43 (dk_at dksJ11_init_2_0 9 rfl rfl)
theorem dJ11_init_2_10 : decode cJ11_init_2 10 = .ok (.invokevirtual 549, 3) := dk_182 2 37 (dk_at dksJ11_init_2_0 10 rfl rfl)
theorem dJ11_init_2_13 : decode cJ11_init_2 13 = .ok (.istore 4, 2) := dk_54 4 (dk_at dksJ11_init_2_0 13 rfl rfl)
theorem dJ11_init_2_15 : decode cJ11_init_2 15 = .ok (.aload_n 1, 1) := dk_43 (dk_at dksJ11_init_2_0 15 rfl rfl)
theorem dJ11_init_2_16 : decode cJ11_init_2 16 = .ok (.invokevirtual 1047, 3) := dk_182 4 23 (dk_at dksJ11_init_2_0 16 rfl rfl)
theorem dJ11_init_2_19 : decode cJ11_init_2 19 = .ok (.ifCond .eq 22, 3) := dk_153 0 22 (dk_at dksJ11_init_2_0 19 rfl rfl)
theorem dJ11_init_2_22 : decode cJ11_init_2 22 = .ok (.aload_n 0, 1) := dk_42 (dk_at dksJ11_init_2_0 22 rfl rfl)
theorem dJ11_init_2_23 : decode cJ11_init_2 23 = .ok (.iconst 0, 1) := dk_3 (dk_at dksJ11_init_2_0 23 rfl rfl)
theorem dJ11_init_2_24 : decode cJ11_init_2 24 = .ok (.putfield 15, 3) := dk_181 0 15 (dk_at dksJ11_init_2_1 0 rfl rfl)
theorem dJ11_init_2_27 : decode cJ11_init_2 27 = .ok (.aload_n 0, 1) := dk_42 (dk_at dksJ11_init_2_1 3 rfl rfl)
theorem dJ11_init_2_28 : decode cJ11_init_2 28 = .ok (.aload_n 3, 1) := dk_45 (dk_at dksJ11_init_2_1 4 rfl rfl)
theorem dJ11_init_2_29 : decode cJ11_init_2 29 = .ok (.iconst 0, 1) := dk_3 (dk_at dksJ11_init_2_1 5 rfl rfl)
theorem dJ11_init_2_30 : decode cJ11_init_2 30 = .ok (.iload 4, 2) := dk_21 4 (dk_at dksJ11_init_2_1 6 rfl rfl)
theorem dJ11_init_2_32 : decode cJ11_init_2 32 = .ok (.invokestatic 54, 3) := dk_184 0 54 (dk_at dksJ11_init_2_1 8 rfl rfl)
theorem dJ11_init_2_35 : decode cJ11_init_2 35 = .ok (.putfield 9, 3) := dk_181 0 9 (dk_at dksJ11_init_2_1 11 rfl rfl)
theorem dJ11_init_2_38 : decode cJ11_init_2 38 = .ok (.goto 59, 3) := dk_167 0 59 (dk_at dksJ11_init_2_1 14 rfl rfl)
theorem dJ11_init_2_41 : decode cJ11_init_2 41 = .ok (.getstatic 38, 3) := dk_178 0 38 (dk_at dksJ11_init_2_1 17 rfl rfl)
theorem dJ11_init_2_44 : decode cJ11_init_2 44 = .ok (.ifCond .eq 35, 3) := dk_153 0 35 (dk_at dksJ11_init_2_1 20 rfl rfl)
theorem dJ11_init_2_47 : decode cJ11_init_2 47 = .ok (.aload_n 1, 1) := dk_43 (dk_at dksJ11_init_2_1 23 rfl rfl)
theorem dJ11_init_2_48 : decode cJ11_init_2 48 = .ok (.getfield 1048, 3) := dk_180 4 24 (dk_at dksJ11_init_2_2 0 rfl rfl)
theorem dJ11_init_2_51 : decode cJ11_init_2 51 = .ok (.ifCond .eq 28, 3) := dk_153 0 28 (dk_at dksJ11_init_2_2 3 rfl rfl)
theorem dJ11_init_2_54 : decode cJ11_init_2 54 = .ok (.aload_n 0, 1) := dk_42 (dk_at dksJ11_init_2_2 6 rfl rfl)
theorem dJ11_init_2_55 : decode cJ11_init_2 55 = .ok (.aload_n 3, 1) := dk_45 (dk_at dksJ11_init_2_2 7 rfl rfl)
theorem dJ11_init_2_56 : decode cJ11_init_2 56 = .ok (.iconst 0, 1) := dk_3 (dk_at dksJ11_init_2_2 8 rfl rfl)
theorem dJ11_init_2_57 : decode cJ11_init_2 57 = .ok (.iload 4, 2) := dk_21 4 (dk_at dksJ11_init_2_2 9 rfl rfl)
theorem dJ11_init_2_59 : decode cJ11_init_2 59 = .ok (.invokestatic 1051, 3) := dk_184 4 27 (dk_at dksJ11_init_2_2 11 rfl rfl)
theorem dJ11_init_2_62 : decode cJ11_init_2 62 = .ok (.putfield 9, 3) := dk_181 0 9 (dk_at dksJ11_init_2_2 14 rfl rfl)
theorem dJ11_init_2_65 : decode cJ11_init_2 65 = .ok (.aload_n 0, 1) := dk_42 (dk_at dksJ11_init_2_2 17 rfl rfl)
theorem dJ11_init_2_66 : decode cJ11_init_2 66 = .ok (.aload_n 0, 1) := dk_42 (dk_at dksJ11_init_2_2 18 rfl rfl)
theorem dJ11_init_2_67 : decode cJ11_init_2 67 = .ok (.getfield 9, 3) := dk_180 0 9 (dk_at dksJ11_init_2_2 19 rfl rfl)
theorem dJ11_init_2_70 : decode cJ11_init_2 70 = .ok (.iload 4, 2) := dk_21 4 (dk_at dksJ11_init_2_2 22 rfl rfl)
theorem dJ11_init_2_72 : decode cJ11_init_2 72 = .ok (.invokestatic 47, 3) := dk_184 0 47 (dk_at dksJ11_init_2_3 0 rfl rfl)
theorem dJ11_init_2_75 : decode cJ11_init_2 75 = .ok (.putfield 15, 3) := dk_181 0 15 (dk_at dksJ11_init_2_3 3 rfl rfl)
theorem dJ11_init_2_78 : decode cJ11_init_2 78 = .ok (.return_, 1) := dk_177 (dk_at dksJ11_init_2_3 6 rfl rfl)
theorem dJ11_init_2_79 : decode cJ11_init_2 79 = .ok (.aload_n 0, 1) := dk_42 (dk_at dksJ11_init_2_3 7 rfl rfl)
theorem dJ11_init_2_80 : decode cJ11_init_2 80 = .ok (.iconst 1, 1) := dk_4 (dk_at dksJ11_init_2_3 8 rfl rfl)
theorem dJ11_init_2_81 : decode cJ11_init_2 81 = .ok (.putfield 15, 3) := dk_181 0 15 (dk_at dksJ11_init_2_3 9 rfl rfl)
theorem dJ11_init_2_84 : decode cJ11_init_2 84 = .ok (.aload_n 0, 1) := dk_42 (dk_at dksJ11_init_2_3 12 rfl rfl)
theorem dJ11_init_2_85 : decode cJ11_init_2 85 = .ok (.aload_n 3, 1) := dk_45 (dk_at dksJ11_init_2_3 13 rfl rfl)
theorem dJ11_init_2_86 : decode cJ11_init_2 86 = .ok (.iconst 0, 1) := dk_3 (dk_at dksJ11_init_2_3 14 rfl rfl)
theorem dJ11_init_2_87 : decode cJ11_init_2 87 = .ok (.iload 4, 2) := dk_21 4 (dk_at dksJ11_init_2_3 15 rfl rfl)
theorem dJ11_init_2_89 : decode cJ11_init_2 89 = .ok (.iconst 1, 1) := dk_4 (dk_at dksJ11_init_2_3 17 rfl rfl)
theorem dJ11_init_2_90 : decode cJ11_init_2 90 = .ok (.ishl, 1) := dk_120 (dk_at dksJ11_init_2_3 18 rfl rfl)
theorem dJ11_init_2_91 : decode cJ11_init_2 91 = .ok (.invokestatic 54, 3) := dk_184 0 54 (dk_at dksJ11_init_2_3 19 rfl rfl)
theorem dJ11_init_2_94 : decode cJ11_init_2 94 = .ok (.putfield 9, 3) := dk_181 0 9 (dk_at dksJ11_init_2_4 0 rfl rfl)
theorem dJ11_init_2_97 : decode cJ11_init_2 97 = .ok (.return_, 1) := dk_177 (dk_at dksJ11_init_2_4 3 rfl rfl)
/-- java/lang/String.<init>(Ljava/lang/AbstractStringBuilder;Ljava/lang/Void;)V -/
def zb364 (G : zPg) (C : zO) (args : List Value) (Q : zQ) (Y : zY) (σ : zS) : Prop := ∃ (a0 : Nat) (x1 : Option Nat) (x2 : Option Nat), args = [.ref a0, va_rf x1, va_rf x2] ∧ ((∃ a1, (some a0) = some a1 ∧ zrc σ x1 8 (fun a6 => zcl C 342 [.ref a6] Y σ (zqR (fun v3 s4 => zrc s4 x1 8 (fun a13 => zcl C 351 [.ref a13] Y s4 (zqI (fun v10 s11 => zrc s11 x1 8 (fun a20 => zcl C 335 [.ref a20] Y s11 (zqI (fun v17 s18 => zJ (fun  (s24 : zS) => Q none s24) (fun (j25 : zS → Prop) => ((v17 = 0) → zJ (fun  (s27 : zS) => ((narrow .byte (.int (1 : Int32)) = .int (1 : Int32) ∧ fits .byte (.int (1 : Int32)) = true) ∧ zput s27 G.1 (some a0) 9 1 (.int (1 : Int32)) (fun s29 => zcl C 411 [va_rf v3, .int (0 : Int32), .int (v10 <<< ((1 : Int32) &&& 31))] Y s29 (zqR (fun v38 s39 => zput s39 G.1 (some a0) 9 0 (va_rf v38) (fun s41 => j25 s41)))))) (fun (j28 : zS → Prop) => (((1 : Int32) = 0) → j28 s18) ∧ ((¬ (1 : Int32) = 0) → zgI s18 x1 8 2 (fun v50 => ((v50 = 0) → j28 s18) ∧ ((¬ v50 = 0) → zcl C 383 [va_rf v3, .int (0 : Int32), .int v10] Y s18 (zqR (fun v57 s58 => zput s58 G.1 (some a0) 9 0 (va_rf v57) (fun s60 => zgR s60 (some a0) 9 0 (fun v68 => zcl C 385 [va_rf v68, .int v10] Y s60 (zqI (fun v74 s75 => ((narrow .byte (.int v74) = .int v74 ∧ fits .byte (.int v74) = true) ∧ zput s75 G.1 (some a0) 9 1 (.int v74) (fun s77 => Q none s77))))))))))))) ∧ ((¬ v17 = 0) → ((narrow .byte (.int (0 : Int32)) = .int (0 : Int32) ∧ fits .byte (.int (0 : Int32)) = true) ∧ zput s18 G.1 (some a0) 9 1 (.int (0 : Int32)) (fun s86 => zcl C 411 [va_rf v3, .int (0 : Int32), .int v10] Y s86 (zqR (fun v95 s96 => zput s96 G.1 (some a0) 9 0 (va_rf v95) (fun s98 => j25 s98))))))))))))))))))
set_option maxHeartbeats 4000000 in
theorem wk364 {l : Launch} {g : zG} {d : Nat} {C : zO} (hG : zGk g) (hC : zSound l g d C) {args : List Value} {Q : zQ} {Y : zY} {σ : zS} (hw : zb364 (zpg g) C args Q Y σ) : zMet l g (d + 1) (⟨"java/lang/String", "<init>", "(Ljava/lang/AbstractStringBuilder;Ljava/lang/Void;)V"⟩, Cond.code ⟨"java/lang/String", "<init>", "(Ljava/lang/AbstractStringBuilder;Ljava/lang/Void;)V"⟩ prog_45_method_150_code 5 (Option.none : Option FieldType)) args σ Q Y := by
  obtain ⟨a0, x1, x2, rfl, hw⟩ := hw
  refine zof hG (by decide +kernel) [false, false, false] ⟨rfl, (zc_rf _), (zc_rf _), trivial⟩ (Nat.le_of_ble_eq_true rfl) (ls := [some (va_rf (some a0)), some (va_rf x1), some (va_rf x2), none, none]) rfl ?_
  intro X hX hR hTb hd1 hd2 hl hg hnm
  subst hl
  subst hg
  have hd : zDep X d := ⟨hd1, hd2⟩
  refine z_aload_n hX dJ11_init_2_0 rfl (i := 0) rfl ?_
  obtain ⟨a1, r2, hw⟩ := hw
  refine z_oinit hX hd dJ11_init_2_1 q1280 q191 q192 r2 rfl (zcs8 (Nat.le_of_ble_eq_true rfl)) ?_
  refine z_aload_n hX dJ11_init_2_4 rfl (i := 1) rfl ?_
  obtain ⟨a6, f7, r8, m9, hw⟩ := hw
  refine z_invV hX hd r8 (ci := 8) rfl rfl m9 dJ11_init_2_5 (hC 342 _ zm342 _ _ _ _ hw) q1281 q1282 q1284 zh15 q1285 q144 zn342 rfl (Nat.le_of_ble_eq_true rfl) (st := []) rfl (zcs8 (Nat.le_of_ble_eq_true rfl)) rfl (zkR (fun v3 s4 hw => ?_)) (zout hX hR hTb)
  refine z_astore_n hX dJ11_init_2_8 rfl (i := 3) (Nat.le_of_ble_eq_true rfl) (zc_rf _) (ls2 := [some (va_rf (some a0)), some (va_rf x1), some (va_rf x2), some (va_rf v3), none]) rfl ?_
  refine z_aload_n hX dJ11_init_2_9 rfl (i := 1) rfl ?_
  obtain ⟨a13, f14, r15, m16, hw⟩ := hw
  refine z_invVU hX hd r15 (ci := 8) rfl rfl m16 dJ11_init_2_10 (hC 351 _ zm351 _ _ _ _ hw) q1286 q1288 (z_declC hX q1287 q1293) q1290 q1289 zh15 q1291 q145 (zn351) rfl (Nat.le_of_ble_eq_true rfl) (st := []) rfl (zcs8 (Nat.le_of_ble_eq_true rfl)) rfl (zkI (fun v10 s11 hw => ?_)) (zout hX hR hTb)
  refine z_istore hX dJ11_init_2_13 (i := 4) (Nat.le_of_ble_eq_true rfl) (zc_rf _) (ls2 := [some (va_rf (some a0)), some (va_rf x1), some (va_rf x2), some (va_rf v3), some (.int v10)]) rfl ?_
  refine z_aload_n hX dJ11_init_2_15 rfl (i := 1) rfl ?_
  obtain ⟨a20, f21, r22, m23, hw⟩ := hw
  refine z_invV hX hd r22 (ci := 8) rfl rfl m23 dJ11_init_2_16 (hC 335 _ zm335 _ _ _ _ hw) q1294 q1163 q1165 zh15 q1166 q144 zn335 rfl (Nat.le_of_ble_eq_true rfl) (st := []) rfl (zcs8 (Nat.le_of_ble_eq_true rfl)) rfl (zkI (fun v17 s18 hw => ?_)) (zout hX hR hTb)
  refine zJ_w (P := fun (j : zS → Prop) => ∀  (s24 : zS), j  s24 → zW X s24 97 [none, none, none, none, none] []) hw (fun  s24 hw => ?_) (fun j25 hj25 hw => ?_)
  · exact z_return hX hR dJ11_init_2_97 hw
  · refine z_if_eq hX dJ11_init_2_19 (tgt := 41) rfl (fun c26 => ?_) (fun c26 => ?_)
    · have hw := hw.1 c26
      refine z_gets hX dJ11_init_2_41 (List.mem_of_getElem? (i := 11) rfl) q1012 rfl ?_
      show zW _ _ _ _ (.int (1 : Int32) :: _)
      refine zJ_w (P := fun (j : zS → Prop) => ∀  (s27 : zS), j  s27 → zW X s27 79 [some (va_rf (some a0)), none, none, some (va_rf v3), some (.int v10)] []) hw (fun  s27 hw => ?_) (fun j28 hj28 hw => ?_)
      · refine z_aload_n hX dJ11_init_2_79 rfl (i := 0) rfl ?_
        refine z_iconst hX (v := (1 : Int32)) dJ11_init_2_80 (by decide) ?_
        obtain ⟨b37, hw⟩ := hw
        obtain ⟨a31, f32, r33, g34, m35, l36, hw⟩ := hw
        refine z_putF hX zc9 (k := 1) dJ11_init_2_81 (Nat.le_of_ble_eq_true rfl) q1328 rfl hnm rfl b37.1 b37.2 r33 g34 m35 l36 (z_nm (fun s29 e30 => ?_))
        have hw := hw s29 e30
        refine z_aload_n hX dJ11_init_2_84 rfl (i := 0) rfl ?_
        refine z_aload_n hX dJ11_init_2_85 rfl (i := 3) rfl ?_
        refine z_iconst hX (v := (0 : Int32)) dJ11_init_2_86 (by decide) ?_
        refine z_iload hX dJ11_init_2_87 (i := 4) rfl ?_
        refine z_iconst hX (v := (1 : Int32)) dJ11_init_2_89 (by decide) ?_
        refine z_ishl hX dJ11_init_2_90 ?_
        refine z_invS hX hd dJ11_init_2_91 (hC 411 _ zm411 _ _ _ _ hw) q1295 q1296 zh20 q1297 q149 zn411 rfl (Nat.le_of_ble_eq_true rfl) (st := [va_rf (some a0)]) rfl (zcs8 (Nat.le_of_ble_eq_true rfl)) rfl (zkR (fun v38 s39 hw => ?_)) (zout hX hR hTb)
        obtain ⟨a43, f44, r45, g46, m47, l48, hw⟩ := hw
        refine z_putF hX zc9 (k := 0) dJ11_init_2_94 (Nat.le_of_ble_eq_true rfl) q1327 rfl hnm rfl (zn_a _ _) (zf_a _ _) r45 g46 m47 l48 (z_nm (fun s41 e42 => ?_))
        have hw := hw s41 e42
        refine z_sub (ls' := [none, none, none, none, none]) (zsN (zsN (zsN (zsN (zsN (zs0)))))) ?_
        exact hj25  _ hw
      · refine z_if_eq hX dJ11_init_2_44 (tgt := 79) rfl (fun c49 => ?_) (fun c49 => ?_)
        · have hw := hw.1 c49
          refine z_sub (ls' := [some (va_rf (some a0)), none, none, some (va_rf v3), some (.int v10)]) (zsS (zsN (zsN (zsS (zsS (zs0)))))) ?_
          exact hj28  _ hw
        · have hw := hw.2 c49
          refine z_aload_n hX dJ11_init_2_47 rfl (i := 1) rfl ?_
          obtain ⟨a51, f52, v50, r53, m54, e55, hw⟩ := hw
          refine z_get hX zc8 (k := 2) dJ11_init_2_48 (Nat.le_of_ble_eq_true rfl) (zlk hX q1114) r53 m54 e55 ?_
          refine z_if_eq hX dJ11_init_2_51 (tgt := 79) rfl (fun c56 => ?_) (fun c56 => ?_)
          · have hw := hw.1 c56
            refine z_sub (ls' := [some (va_rf (some a0)), none, none, some (va_rf v3), some (.int v10)]) (zsS (zsN (zsN (zsS (zsS (zs0)))))) ?_
            exact hj28  _ hw
          · have hw := hw.2 c56
            refine z_aload_n hX dJ11_init_2_54 rfl (i := 0) rfl ?_
            refine z_aload_n hX dJ11_init_2_55 rfl (i := 3) rfl ?_
            refine z_iconst hX (v := (0 : Int32)) dJ11_init_2_56 (by decide) ?_
            refine z_iload hX dJ11_init_2_57 (i := 4) rfl ?_
            refine z_invS hX hd dJ11_init_2_59 (hC 383 _ zm383 _ _ _ _ hw) q1317 q1318 zh18 q1319 q147 zn383 rfl (Nat.le_of_ble_eq_true rfl) (st := [va_rf (some a0)]) rfl (zcs8 (Nat.le_of_ble_eq_true rfl)) rfl (zkR (fun v57 s58 hw => ?_)) (zout hX hR hTb)
            obtain ⟨a62, f63, r64, g65, m66, l67, hw⟩ := hw
            refine z_putF hX zc9 (k := 0) dJ11_init_2_62 (Nat.le_of_ble_eq_true rfl) q1327 rfl hnm rfl (zn_a _ _) (zf_a _ _) r64 g65 m66 l67 (z_nm (fun s60 e61 => ?_))
            have hw := hw s60 e61
            refine z_aload_n hX dJ11_init_2_65 rfl (i := 0) rfl ?_
            refine z_aload_n hX dJ11_init_2_66 rfl (i := 0) rfl ?_
            obtain ⟨a69, f70, v68, r71, m72, e73, hw⟩ := hw
            refine z_get hX zc9 (k := 0) dJ11_init_2_67 (Nat.le_of_ble_eq_true rfl) (zlk hX q1327) r71 m72 e73 ?_
            refine z_iload hX dJ11_init_2_70 (i := 4) rfl ?_
            refine z_invS hX hd dJ11_init_2_72 (hC 385 _ zm385 _ _ _ _ hw) q1324 q1325 zh18 q1326 q147 zn385 rfl (Nat.le_of_ble_eq_true rfl) (st := [va_rf (some a0)]) rfl (zcs8 (Nat.le_of_ble_eq_true rfl)) rfl (zkI (fun v74 s75 hw => ?_)) (zout hX hR hTb)
            obtain ⟨b85, hw⟩ := hw
            obtain ⟨a79, f80, r81, g82, m83, l84, hw⟩ := hw
            refine z_putF hX zc9 (k := 1) dJ11_init_2_75 (Nat.le_of_ble_eq_true rfl) q1328 rfl hnm rfl b85.1 b85.2 r81 g82 m83 l84 (z_nm (fun s77 e78 => ?_))
            have hw := hw s77 e78
            exact z_return hX hR dJ11_init_2_78 hw
    · have hw := hw.2 c26
      refine z_aload_n hX dJ11_init_2_22 rfl (i := 0) rfl ?_
      refine z_iconst hX (v := (0 : Int32)) dJ11_init_2_23 (by decide) ?_
      obtain ⟨b94, hw⟩ := hw
      obtain ⟨a88, f89, r90, g91, m92, l93, hw⟩ := hw
      refine z_putF hX zc9 (k := 1) dJ11_init_2_24 (Nat.le_of_ble_eq_true rfl) q1328 rfl hnm rfl b94.1 b94.2 r90 g91 m92 l93 (z_nm (fun s86 e87 => ?_))
      have hw := hw s86 e87
      refine z_aload_n hX dJ11_init_2_27 rfl (i := 0) rfl ?_
      refine z_aload_n hX dJ11_init_2_28 rfl (i := 3) rfl ?_
      refine z_iconst hX (v := (0 : Int32)) dJ11_init_2_29 (by decide) ?_
      refine z_iload hX dJ11_init_2_30 (i := 4) rfl ?_
      refine z_invS hX hd dJ11_init_2_32 (hC 411 _ zm411 _ _ _ _ hw) q1295 q1296 zh20 q1297 q149 zn411 rfl (Nat.le_of_ble_eq_true rfl) (st := [va_rf (some a0)]) rfl (zcs8 (Nat.le_of_ble_eq_true rfl)) rfl (zkR (fun v95 s96 hw => ?_)) (zout hX hR hTb)
      obtain ⟨a100, f101, r102, g103, m104, l105, hw⟩ := hw
      refine z_putF hX zc9 (k := 0) dJ11_init_2_35 (Nat.le_of_ble_eq_true rfl) q1327 rfl hnm rfl (zn_a _ _) (zf_a _ _) r102 g103 m104 l105 (z_nm (fun s98 e99 => ?_))
      have hw := hw s98 e99
      refine z_goto hX dJ11_init_2_38 (tgt := 97) rfl ?_
      refine z_sub (ls' := [none, none, none, none, none]) (zsN (zsN (zsN (zsN (zsN (zs0)))))) ?_
      exact hj25  _ hw
abbrev cJ11_equals : ByteArray := prog_45_method_66_code
def yJ11_equals : MethodName := ⟨RJ11, "equals", "(Ljava/lang/Object;)Z"⟩
def dkwJ11_equals_2 : List UInt8 := [184, 2, 29, 153, 0, 7, 4, 167, 0, 4, 3, 172]
abbrev dktJ11_equals_2 : List UInt8 := dkwJ11_equals_2 ++ []
def dkwJ11_equals_1 : List UInt8 := [153, 0, 14, 42, 180, 0, 15, 44, 180, 0, 15, 160, 0, 21, 42, 180, 0, 9, 44, 180, 0, 9]
abbrev dktJ11_equals_1 : List UInt8 := dkwJ11_equals_1 ++ dktJ11_equals_2
def dkwJ11_equals_0 : List UInt8 := [42, 43, 166, 0, 5, 4, 172, 43, 193, 0, 10, 153, 0, 43, 43, 192, 0, 10, 77, 178, 0, 38]
abbrev dktJ11_equals_0 : List UInt8 := dkwJ11_equals_0 ++ dktJ11_equals_1
theorem dksJ11_equals_0 : cJ11_equals.data.toList.drop 0 = dktJ11_equals_0 := by decide +kernel
theorem dksJ11_equals_1 : cJ11_equals.data.toList.drop 22 = dktJ11_equals_1 := dk_seg dksJ11_equals_0 22 rfl rfl
theorem dksJ11_equals_2 : cJ11_equals.data.toList.drop 44 = dktJ11_equals_2 := dk_seg dksJ11_equals_1 22 rfl rfl
theorem dJ11_equals_0 : decode cJ11_equals 0 = .ok (.aload_n 0, 1) := dk_42 (dk_at dksJ11_equals_0 0 rfl rfl)
theorem dJ11_equals_1 : decode cJ11_equals 1 = .ok (.aload_n 1, 1) := dk_43 (dk_at dksJ11_equals_0 1 rfl rfl)
theorem dJ11_equals_2 : decode cJ11_equals 2 = .ok (.if_acmp .ne 5, 3) := dk_166 0 5 (dk_at dksJ11_equals_0 2 rfl rfl)
theorem dJ11_equals_5 : decode cJ11_equals 5 = .ok (.iconst 1, 1) := dk_4 (dk_at dksJ11_equals_0 5 rfl rfl)
theorem dJ11_equals_6 : decode cJ11_equals 6 = .ok (.ireturn, 1) := dk_172 (dk_at dksJ11_equals_0 6 rfl rfl)
theorem dJ11_equals_7 : decode cJ11_equals 7 = .ok (.aload_n 1, 1) := dk_43 (dk_at dksJ11_equals_0 7 rfl rfl)
theorem dJ11_equals_8 : decode cJ11_equals 8 = .ok (.instanceof 10, 3) := dk_193 0 10 (dk_at dksJ11_equals_0 8 rfl rfl)
theorem dJ11_equals_11 : decode cJ11_equals 11 = .ok (.ifCond .eq 43, 3) := dk_153 0 43 (dk_at dksJ11_equals_0 11 rfl rfl)
theorem dJ11_equals_14 : decode cJ11_equals 14 = .ok (.aload_n 1, 1) := dk_43 (dk_at dksJ11_equals_0 14 rfl rfl)
theorem dJ11_equals_15 : decode cJ11_equals 15 = .ok (.checkcast 10, 3) := dk_192 0 10 (dk_at dksJ11_equals_0 15 rfl rfl)
theorem dJ11_equals_18 : decode cJ11_equals 18 = .ok (.astore_n 2, 1) := dk_77 (dk_at dksJ11_equals_0 18 rfl rfl)
theorem dJ11_equals_19 : decode cJ11_equals 19 = .ok (.getstatic 38, 3) := dk_178 0 38 (dk_at dksJ11_equals_0 19 rfl rfl)
theorem dJ11_equals_22 : decode cJ11_equals 22 = .ok (.ifCond .eq 14, 3) := dk_153 0 14 (dk_at dksJ11_equals_1 0 rfl rfl)
theorem dJ11_equals_25 : decode cJ11_equals 25 = .ok (.aload_n 0, 1) := dk_42 (dk_at dksJ11_equals_1 3 rfl rfl)
theorem dJ11_equals_26 : decode cJ11_equals 26 = .ok (.getfield 15, 3) := dk_180 0 15 (dk_at dksJ11_equals_1 4 rfl rfl)
theorem dJ11_equals_29 : decode cJ11_equals 29 = .ok (.aload_n 2, 1) := dk_44 (dk_at dksJ11_equals_1 7 rfl rfl)
theorem dJ11_equals_30 : decode cJ11_equals 30 = .ok (.getfield 15, 3) := dk_180 0 15 (dk_at dksJ11_equals_1 8 rfl rfl)
theorem dJ11_equals_33 : decode cJ11_equals 33 = .ok (.if_icmp .ne 21, 3) := dk_160 0 21 (dk_at dksJ11_equals_1 11 rfl rfl)
theorem dJ11_equals_36 : decode cJ11_equals 36 = .ok (.aload_n 0, 1) := dk_42 (dk_at dksJ11_equals_1 14 rfl rfl)
theorem dJ11_equals_37 : decode cJ11_equals 37 = .ok (.getfield 9, 3) := dk_180 0 9 (dk_at dksJ11_equals_1 15 rfl rfl)
theorem dJ11_equals_40 : decode cJ11_equals 40 = .ok (.aload_n 2, 1) := dk_44 (dk_at dksJ11_equals_1 18 rfl rfl)
theorem dJ11_equals_41 : decode cJ11_equals 41 = .ok (.getfield 9, 3) := dk_180 0 9 (dk_at dksJ11_equals_1 19 rfl rfl)
theorem dJ11_equals_44 : decode cJ11_equals 44 = .ok (.invokestatic 541, 3) := dk_184 2 29 (dk_at dksJ11_equals_2 0 rfl rfl)
theorem dJ11_equals_47 : decode cJ11_equals 47 = .ok (.ifCond .eq 7, 3) := dk_153 0 7 (dk_at dksJ11_equals_2 3 rfl rfl)
theorem dJ11_equals_50 : decode cJ11_equals 50 = .ok (.iconst 1, 1) := dk_4 (dk_at dksJ11_equals_2 6 rfl rfl)
theorem dJ11_equals_51 : decode cJ11_equals 51 = .ok (.goto 4, 3) := dk_167 0 4 (dk_at dksJ11_equals_2 7 rfl rfl)
theorem dJ11_equals_54 : decode cJ11_equals 54 = .ok (.iconst 0, 1) := dk_3 (dk_at dksJ11_equals_2 10 rfl rfl)
theorem dJ11_equals_55 : decode cJ11_equals 55 = .ok (.ireturn, 1) := dk_172 (dk_at dksJ11_equals_2 11 rfl rfl)
/-- java/lang/String.equals(Ljava/lang/Object;)Z -/
def zb365 (G : zPg) (C : zO) (args : List Value) (Q : zQ) (Y : zY) (σ : zS) : Prop := ∃ (a0 : Nat) (x1 : Option Nat), args = [.ref a0, va_rf x1] ∧ (((¬ (some a0) = x1) → (∃ a2 c3 f4, x1 = some a2 ∧ c3 ∈ [9] ∧ σ.1 a2 = some (.inr (c3, f4)) ∧ zJ (fun (p8 : Int32) (s9 : zS) => zbool p8 ∧ Q (some (.int p8)) s9) (fun (j10 : Int32 → zS → Prop) => zJ (fun  (s11 : zS) => j10 (0 : Int32) s11) (fun (j12 : zS → Prop) => (((1 : Int32) = 0) → j12 σ) ∧ ((¬ (1 : Int32) = 0) → (zcst σ x1 [9] ∧ zJ (fun  (s14 : zS) => zgR s14 (some a0) 9 0 (fun v16 => zgR s14 x1 9 0 (fun v22 => zcl C 418 [va_rf v16, va_rf v22] Y s14 (zqI (fun v28 s29 => ((v28 = 0) → j12 s29) ∧ ((¬ v28 = 0) → j10 (1 : Int32) s29)))))) (fun (j15 : zS → Prop) => (((1 : Int32) = 0) → j15 σ) ∧ ((¬ (1 : Int32) = 0) → zgI σ (some a0) 9 1 (fun v33 => zgI σ x1 9 1 (fun v39 => ((¬ v33 = v39) → j12 σ) ∧ ((v33 = v39) → j15 σ))))))))))) ∧ (((some a0) = x1) → zbool (1 : Int32) ∧ Q (some (.int (1 : Int32))) σ))
set_option maxHeartbeats 4000000 in
theorem wk365 {l : Launch} {g : zG} {d : Nat} {C : zO} (hG : zGk g) (hC : zSound l g d C) {args : List Value} {Q : zQ} {Y : zY} {σ : zS} (hw : zb365 (zpg g) C args Q Y σ) : zMet l g (d + 1) (⟨"java/lang/String", "equals", "(Ljava/lang/Object;)Z"⟩, Cond.code ⟨"java/lang/String", "equals", "(Ljava/lang/Object;)Z"⟩ prog_45_method_66_code 3 (Option.some FieldType.boolean)) args σ Q Y := by
  obtain ⟨a0, x1, rfl, hw⟩ := hw
  refine zof hG (by decide +kernel) [false, false] ⟨rfl, (zc_rf _), trivial⟩ (Nat.le_of_ble_eq_true rfl) (ls := [some (va_rf (some a0)), some (va_rf x1), none]) rfl ?_
  intro X hX hR hTb hd1 hd2 hl hg hnm
  subst hl
  subst hg
  have hd : zDep X d := ⟨hd1, hd2⟩
  refine z_aload_n hX dJ11_equals_0 rfl (i := 0) rfl ?_
  refine z_aload_n hX dJ11_equals_1 rfl (i := 1) rfl ?_
  refine z_acmp_ne hX dJ11_equals_2 (tgt := 7) rfl (fun c1 => ?_) (fun c1 => ?_)
  · have hw := hw.1 c1
    refine z_aload_n hX dJ11_equals_7 rfl (i := 1) rfl ?_
    obtain ⟨a2, c3, f4, r5, h6, m7, hw⟩ := hw
    refine z_instY hX dJ11_equals_8 q1433 (zfa1 ⟨_, rfl, Or.inl rfl⟩ (zfa0)) r5 h6 m7 ?_
    refine zJ_w (P := fun (j : Int32 → zS → Prop) => ∀ (p8 : Int32) (s9 : zS), j p8 s9 → zW X s9 55 [none, none, none] [.int p8]) hw (fun p8 s9 hw => ?_) (fun j10 hj10 hw => ?_)
    · exact z_ireturn hX hR dJ11_equals_55 (zn_z hw.1) hw.2
    · refine zJ_w (P := fun (j : zS → Prop) => ∀  (s11 : zS), j  s11 → zW X s11 54 [none, none, none] []) hw (fun  s11 hw => ?_) (fun j12 hj12 hw => ?_)
      · refine z_iconst hX (v := (0 : Int32)) dJ11_equals_54 (by decide) ?_
        exact hj10 _ _ hw
      · refine z_if_eq hX dJ11_equals_11 (tgt := 54) rfl (fun c13 => ?_) (fun c13 => ?_)
        · have hw := hw.1 c13
          refine z_sub (ls' := [none, none, none]) (zsN (zsN (zsN (zs0)))) ?_
          exact hj12  _ hw
        · have hw := hw.2 c13
          refine z_aload_n hX dJ11_equals_14 rfl (i := 1) rfl ?_
          refine z_cast hX dJ11_equals_15 q1433 (zfa1 ⟨_, rfl, Or.inl rfl⟩ (zfa0)) hw.1 ?_
          have hw := hw.2
          refine z_astore_n hX dJ11_equals_18 rfl (i := 2) (Nat.le_of_ble_eq_true rfl) (zc_rf _) (ls2 := [some (va_rf (some a0)), some (va_rf x1), some (va_rf x1)]) rfl ?_
          refine z_gets hX dJ11_equals_19 (List.mem_of_getElem? (i := 11) rfl) q1012 rfl ?_
          show zW _ _ _ _ (.int (1 : Int32) :: _)
          refine zJ_w (P := fun (j : zS → Prop) => ∀  (s14 : zS), j  s14 → zW X s14 36 [some (va_rf (some a0)), none, some (va_rf x1)] []) hw (fun  s14 hw => ?_) (fun j15 hj15 hw => ?_)
          · refine z_aload_n hX dJ11_equals_36 rfl (i := 0) rfl ?_
            obtain ⟨a17, f18, v16, r19, m20, e21, hw⟩ := hw
            refine z_get hX zc9 (k := 0) dJ11_equals_37 (Nat.le_of_ble_eq_true rfl) (zlk hX q1327) r19 m20 e21 ?_
            refine z_aload_n hX dJ11_equals_40 rfl (i := 2) rfl ?_
            obtain ⟨a23, f24, v22, r25, m26, e27, hw⟩ := hw
            refine z_get hX zc9 (k := 0) dJ11_equals_41 (Nat.le_of_ble_eq_true rfl) (zlk hX q1327) r25 m26 e27 ?_
            refine z_invS hX hd dJ11_equals_44 (hC 418 _ zm418 _ _ _ _ hw) q1434 q1435 zh21 q1436 q151 zn418 rfl (Nat.le_of_ble_eq_true rfl) (st := []) rfl (zcs8 (Nat.le_of_ble_eq_true rfl)) rfl (zkI (fun v28 s29 hw => ?_)) (zout hX hR hTb)
            refine z_if_eq hX dJ11_equals_47 (tgt := 54) rfl (fun c31 => ?_) (fun c31 => ?_)
            · have hw := hw.1 c31
              refine z_sub (ls' := [none, none, none]) (zsN (zsN (zsN (zs0)))) ?_
              exact hj12  _ hw
            · have hw := hw.2 c31
              refine z_iconst hX (v := (1 : Int32)) dJ11_equals_50 (by decide) ?_
              refine z_goto hX dJ11_equals_51 (tgt := 55) rfl ?_
              refine z_sub (ls' := [none, none, none]) (zsN (zsN (zsN (zs0)))) ?_
              exact hj10 _ _ hw
          · refine z_if_eq hX dJ11_equals_22 (tgt := 36) rfl (fun c32 => ?_) (fun c32 => ?_)
            · have hw := hw.1 c32
              refine z_sub (ls' := [some (va_rf (some a0)), none, some (va_rf x1)]) (zsS (zsN (zsS (zs0)))) ?_
              exact hj15  _ hw
            · have hw := hw.2 c32
              refine z_aload_n hX dJ11_equals_25 rfl (i := 0) rfl ?_
              obtain ⟨a34, f35, v33, r36, m37, e38, hw⟩ := hw
              refine z_get hX zc9 (k := 1) dJ11_equals_26 (Nat.le_of_ble_eq_true rfl) (zlk hX q1328) r36 m37 e38 ?_
              refine z_aload_n hX dJ11_equals_29 rfl (i := 2) rfl ?_
              obtain ⟨a40, f41, v39, r42, m43, e44, hw⟩ := hw
              refine z_get hX zc9 (k := 1) dJ11_equals_30 (Nat.le_of_ble_eq_true rfl) (zlk hX q1328) r42 m43 e44 ?_
              refine z_icmp_ne hX dJ11_equals_33 (tgt := 54) rfl (fun c45 => ?_) (fun c45 => ?_)
              · have hw := hw.1 c45
                refine z_sub (ls' := [none, none, none]) (zsN (zsN (zsN (zs0)))) ?_
                exact hj12  _ hw
              · have hw := hw.2 c45
                refine z_sub (ls' := [some (va_rf (some a0)), none, some (va_rf x1)]) (zsS (zsN (zsS (zs0)))) ?_
                exact hj15  _ hw
  · have hw := hw.2 c1
    refine z_iconst hX (v := (1 : Int32)) dJ11_equals_5 (by decide) ?_
    exact z_ireturn hX hR dJ11_equals_6 (zn_z hw.1) hw.2
abbrev cJ11_compareTo : ByteArray := prog_45_method_162_code
def yJ11_compareTo : MethodName := ⟨RJ11, "compareTo", "(Ljava/lang/Object;)I"⟩
def dkwJ11_compareTo_0 : List UInt8 := [42, 43, 192, 0, 10, 182, 4, 60, 172]
abbrev dktJ11_compareTo_0 : List UInt8 := dkwJ11_compareTo_0 ++ []
theorem dksJ11_compareTo_0 : cJ11_compareTo.data.toList.drop 0 = dktJ11_compareTo_0 := by decide +kernel
theorem dJ11_compareTo_0 : decode cJ11_compareTo 0 = .ok (.aload_n 0, 1) := dk_42 (dk_at dksJ11_compareTo_0 0 rfl rfl)
theorem dJ11_compareTo_1 : decode cJ11_compareTo 1 = .ok (.aload_n 1, 1) := dk_43 (dk_at dksJ11_compareTo_0 1 rfl rfl)
theorem dJ11_compareTo_2 : decode cJ11_compareTo 2 = .ok (.checkcast 10, 3) := dk_192 0 10 (dk_at dksJ11_compareTo_0 2 rfl rfl)
theorem dJ11_compareTo_5 : decode cJ11_compareTo 5 = .ok (.invokevirtual 1084, 3) := dk_182 4 60 (dk_at dksJ11_compareTo_0 5 rfl rfl)
theorem dJ11_compareTo_8 : decode cJ11_compareTo 8 = .ok (.ireturn, 1) := dk_172 (dk_at dksJ11_compareTo_0 8 rfl rfl)
/-- java/lang/String.compareTo(Ljava/lang/Object;)I -/
def zb366 (G : zPg) (C : zO) (args : List Value) (Q : zQ) (Y : zY) (σ : zS) : Prop := ∃ (a0 : Nat) (x1 : Option Nat), args = [.ref a0, va_rf x1] ∧ ((zcst σ x1 [9] ∧ zrc σ (some a0) 9 (fun a4 => zcl C 367 [.ref a4, va_rf x1] Y σ (zqI (fun v1 s2 => Q (some (.int v1)) s2)))))
set_option maxHeartbeats 4000000 in
theorem wk366 {l : Launch} {g : zG} {d : Nat} {C : zO} (hG : zGk g) (hC : zSound l g d C) {args : List Value} {Q : zQ} {Y : zY} {σ : zS} (hw : zb366 (zpg g) C args Q Y σ) : zMet l g (d + 1) (⟨"java/lang/String", "compareTo", "(Ljava/lang/Object;)I"⟩, Cond.code ⟨"java/lang/String", "compareTo", "(Ljava/lang/Object;)I"⟩ prog_45_method_162_code 2 (Option.some FieldType.int)) args σ Q Y := by
  obtain ⟨a0, x1, rfl, hw⟩ := hw
  refine zof hG (by decide +kernel) [false, false] ⟨rfl, (zc_rf _), trivial⟩ (Nat.le_of_ble_eq_true rfl) (ls := [some (va_rf (some a0)), some (va_rf x1)]) rfl ?_
  intro X hX hR hTb hd1 hd2 hl hg hnm
  subst hl
  subst hg
  have hd : zDep X d := ⟨hd1, hd2⟩
  refine z_aload_n hX dJ11_compareTo_0 rfl (i := 0) rfl ?_
  refine z_aload_n hX dJ11_compareTo_1 rfl (i := 1) rfl ?_
  refine z_cast hX dJ11_compareTo_2 q1433 (zfa1 ⟨_, rfl, Or.inl rfl⟩ (zfa0)) hw.1 ?_
  have hw := hw.2
  obtain ⟨a4, f5, r6, m7, hw⟩ := hw
  refine z_invV hX hd r6 (ci := 9) rfl rfl m7 dJ11_compareTo_5 (hC 367 _ zm367 _ _ _ _ hw) q1833 q1834 q1835 zh17 q1836 q146 zn367 rfl (Nat.le_of_ble_eq_true rfl) (st := []) rfl (zcs8 (Nat.le_of_ble_eq_true rfl)) rfl (zkI (fun v1 s2 hw => ?_)) (zout hX hR hTb)
  exact z_ireturn hX hR dJ11_compareTo_8 rfl hw
abbrev cJ11_compareTo_2 : ByteArray := prog_45_method_71_code
def yJ11_compareTo_2 : MethodName := ⟨RJ11, "compareTo", "(Ljava/lang/String;)I"⟩
def dkwJ11_compareTo_2_2 : List UInt8 := [154, 0, 11, 44, 45, 184, 2, 79, 167, 0, 8, 44, 45, 184, 2, 82, 172]
abbrev dktJ11_compareTo_2_2 : List UInt8 := dkwJ11_compareTo_2_2 ++ []
def dkwJ11_compareTo_2_1 : List UInt8 := [160, 0, 22, 21, 4, 154, 0, 11, 44, 45, 184, 2, 74, 167, 0, 8, 44, 45, 184, 2, 78, 172, 21, 4]
abbrev dktJ11_compareTo_2_1 : List UInt8 := dkwJ11_compareTo_2_1 ++ dktJ11_compareTo_2_2
def dkwJ11_compareTo_2_0 : List UInt8 := [42, 180, 0, 9, 77, 43, 180, 0, 9, 78, 42, 182, 1, 79, 54, 4, 21, 4, 43, 182, 1, 79]
abbrev dktJ11_compareTo_2_0 : List UInt8 := dkwJ11_compareTo_2_0 ++ dktJ11_compareTo_2_1
theorem dksJ11_compareTo_2_0 : cJ11_compareTo_2.data.toList.drop 0 = dktJ11_compareTo_2_0 := by decide +kernel
theorem dksJ11_compareTo_2_1 : cJ11_compareTo_2.data.toList.drop 22 = dktJ11_compareTo_2_1 := dk_seg dksJ11_compareTo_2_0 22 rfl rfl
theorem dksJ11_compareTo_2_2 : cJ11_compareTo_2.data.toList.drop 46 = dktJ11_compareTo_2_2 := dk_seg dksJ11_compareTo_2_1 24 rfl rfl
theorem dJ11_compareTo_2_0 : decode cJ11_compareTo_2 0 = .ok (.aload_n 0, 1) := dk_42 (dk_at dksJ11_compareTo_2_0 0 rfl rfl)
theorem dJ11_compareTo_2_1 : decode cJ11_compareTo_2 1 = .ok (.getfield 9, 3) := dk_180 0 9 (dk_at dksJ11_compareTo_2_0 1 rfl rfl)
theorem dJ11_compareTo_2_4 : decode cJ11_compareTo_2 4 = .ok (.astore_n 2, 1) := dk_77 (dk_at dksJ11_compareTo_2_0 4 rfl rfl)
theorem dJ11_compareTo_2_5 : decode cJ11_compareTo_2 5 = .ok (.aload_n 1, 1) := dk_43 (dk_at dksJ11_compareTo_2_0 5 rfl rfl)
theorem dJ11_compareTo_2_6 : decode cJ11_compareTo_2 6 = .ok (.getfield 9, 3) := dk_180 0 9 (dk_at dksJ11_compareTo_2_0 6 rfl rfl)
theorem dJ11_compareTo_2_9 : decode cJ11_compareTo_2 9 = .ok (.astore_n 3, 1) := dk_78 (dk_at dksJ11_compareTo_2_0 9 rfl rfl)
theorem dJ11_compareTo_2_10 : decode cJ11_compareTo_2 10 = .ok (.aload_n 0, 1) := dk_42 (dk_at dksJ11_compareTo_2_0 10 rfl rfl)
theorem dJ11_compareTo_2_11 : decode cJ11_compareTo_2 11 = .ok (.invokevirtual 335, 3) := dk_182 1 79 (dk_at dksJ11_compareTo_2_0 11 rfl rfl)
theorem dJ11_compareTo_2_14 : decode cJ11_compareTo_2 14 = .ok (.istore 4, 2) := dk_54 4 (dk_at dksJ11_compareTo_2_0 14 rfl rfl)
theorem dJ11_compareTo_2_16 : decode cJ11_compareTo_2 16 = .ok (.iload 4, 2) := dk_21 4 (dk_at dksJ11_compareTo_2_0 16 rfl rfl)
theorem dJ11_compareTo_2_18 : decode cJ11_compareTo_2 18 = .ok (.aload_n 1, 1) := dk_43 (dk_at dksJ11_compareTo_2_0 18 rfl rfl)
theorem dJ11_compareTo_2_19 : decode cJ11_compareTo_2 19 = .ok (.invokevirtual 335, 3) := dk_182 1 79 (dk_at dksJ11_compareTo_2_0 19 rfl rfl)
theorem dJ11_compareTo_2_22 : decode cJ11_compareTo_2 22 = .ok (.if_icmp .ne 22, 3) := dk_160 0 22 (dk_at dksJ11_compareTo_2_1 0 rfl rfl)
theorem dJ11_compareTo_2_25 : decode cJ11_compareTo_2 25 = .ok (.iload 4, 2) := dk_21 4 (dk_at dksJ11_compareTo_2_1 3 rfl rfl)
theorem dJ11_compareTo_2_27 : decode cJ11_compareTo_2 27 = .ok (.ifCond .ne 11, 3) := dk_154 0 11 (dk_at dksJ11_compareTo_2_1 5 rfl rfl)
theorem dJ11_compareTo_2_30 : decode cJ11_compareTo_2 30 = .ok (.aload_n 2, 1) := dk_44 (dk_at dksJ11_compareTo_2_1 8 rfl rfl)
theorem dJ11_compareTo_2_31 : decode cJ11_compareTo_2 31 = .ok (.aload_n 3, 1) := dk_45 (dk_at dksJ11_compareTo_2_1 9 rfl rfl)
theorem dJ11_compareTo_2_32 : decode cJ11_compareTo_2 32 = .ok (.invokestatic 586, 3) := dk_184 2 74 (dk_at dksJ11_compareTo_2_1 10 rfl rfl)
theorem dJ11_compareTo_2_35 : decode cJ11_compareTo_2 35 = .ok (.goto 8, 3) := dk_167 0 8 (dk_at dksJ11_compareTo_2_1 13 rfl rfl)
theorem dJ11_compareTo_2_38 : decode cJ11_compareTo_2 38 = .ok (.aload_n 2, 1) := dk_44 (dk_at dksJ11_compareTo_2_1 16 rfl rfl)
theorem dJ11_compareTo_2_39 : decode cJ11_compareTo_2 39 = .ok (.aload_n 3, 1) := dk_45 (dk_at dksJ11_compareTo_2_1 17 rfl rfl)
theorem dJ11_compareTo_2_40 : decode cJ11_compareTo_2 40 = .ok (.invokestatic 590, 3) := dk_184 2 78 (dk_at dksJ11_compareTo_2_1 18 rfl rfl)
theorem dJ11_compareTo_2_43 : decode cJ11_compareTo_2 43 = .ok (.ireturn, 1) := dk_172 (dk_at dksJ11_compareTo_2_1 21 rfl rfl)
theorem dJ11_compareTo_2_44 : decode cJ11_compareTo_2 44 = .ok (.iload 4, 2) := dk_21 4 (dk_at dksJ11_compareTo_2_1 22 rfl rfl)
theorem dJ11_compareTo_2_46 : decode cJ11_compareTo_2 46 = .ok (.ifCond .ne 11, 3) := dk_154 0 11 (dk_at dksJ11_compareTo_2_2 0 rfl rfl)
theorem dJ11_compareTo_2_49 : decode cJ11_compareTo_2 49 = .ok (.aload_n 2, 1) := dk_44 (dk_at dksJ11_compareTo_2_2 3 rfl rfl)
theorem dJ11_compareTo_2_50 : decode cJ11_compareTo_2 50 = .ok (.aload_n 3, 1) := dk_45 (dk_at dksJ11_compareTo_2_2 4 rfl rfl)
theorem dJ11_compareTo_2_51 : decode cJ11_compareTo_2 51 = .ok (.invokestatic 591, 3) := dk_184 2 79 (dk_at dksJ11_compareTo_2_2 5 rfl rfl)
theorem dJ11_compareTo_2_54 : decode cJ11_compareTo_2 54 = .ok (.goto 8, 3) := dk_167 0 8 (dk_at dksJ11_compareTo_2_2 8 rfl rfl)
theorem dJ11_compareTo_2_57 : decode cJ11_compareTo_2 57 = .ok (.aload_n 2, 1) := dk_44 (dk_at dksJ11_compareTo_2_2 11 rfl rfl)
theorem dJ11_compareTo_2_58 : decode cJ11_compareTo_2 58 = .ok (.aload_n 3, 1) := dk_45 (dk_at dksJ11_compareTo_2_2 12 rfl rfl)
theorem dJ11_compareTo_2_59 : decode cJ11_compareTo_2 59 = .ok (.invokestatic 594, 3) := dk_184 2 82 (dk_at dksJ11_compareTo_2_2 13 rfl rfl)
theorem dJ11_compareTo_2_62 : decode cJ11_compareTo_2 62 = .ok (.ireturn, 1) := dk_172 (dk_at dksJ11_compareTo_2_2 16 rfl rfl)
/-- java/lang/String.compareTo(Ljava/lang/String;)I -/
def zb367 (G : zPg) (C : zO) (args : List Value) (Q : zQ) (Y : zY) (σ : zS) : Prop := ∃ (a0 : Nat) (x1 : Option Nat), args = [.ref a0, va_rf x1] ∧ (zgR σ (some a0) 9 0 (fun v1 => zgR σ x1 9 0 (fun v7 => zrc σ (some a0) 9 (fun a16 => zcl C 356 [.ref a16] Y σ (zqI (fun v13 s14 => zrc s14 x1 9 (fun a23 => zcl C 356 [.ref a23] Y s14 (zqI (fun v20 s21 => ((¬ v13 = v20) → zJ (fun (p28 : Int32) (s29 : zS) => Q (some (.int p28)) s29) (fun (j30 : Int32 → zS → Prop) => ((¬ v13 = 0) → zcl C 390 [va_rf v1, va_rf v7] Y s21 (zqI (fun v32 s33 => j30 v32 s33))) ∧ ((v13 = 0) → zcl C 422 [va_rf v1, va_rf v7] Y s21 (zqI (fun v35 s36 => j30 v35 s36))))) ∧ ((v13 = v20) → zJ (fun (p38 : Int32) (s39 : zS) => Q (some (.int p38)) s39) (fun (j40 : Int32 → zS → Prop) => ((¬ v13 = 0) → zcl C 388 [va_rf v1, va_rf v7] Y s21 (zqI (fun v42 s43 => j40 v42 s43))) ∧ ((v13 = 0) → zcl C 419 [va_rf v1, va_rf v7] Y s21 (zqI (fun v45 s46 => j40 v45 s46))))))))))))))
set_option maxHeartbeats 4000000 in
theorem wk367 {l : Launch} {g : zG} {d : Nat} {C : zO} (hG : zGk g) (hC : zSound l g d C) {args : List Value} {Q : zQ} {Y : zY} {σ : zS} (hw : zb367 (zpg g) C args Q Y σ) : zMet l g (d + 1) (⟨"java/lang/String", "compareTo", "(Ljava/lang/String;)I"⟩, Cond.code ⟨"java/lang/String", "compareTo", "(Ljava/lang/String;)I"⟩ prog_45_method_71_code 5 (Option.some FieldType.int)) args σ Q Y := by
  obtain ⟨a0, x1, rfl, hw⟩ := hw
  refine zof hG (by decide +kernel) [false, false] ⟨rfl, (zc_rf _), trivial⟩ (Nat.le_of_ble_eq_true rfl) (ls := [some (va_rf (some a0)), some (va_rf x1), none, none, none]) rfl ?_
  intro X hX hR hTb hd1 hd2 hl hg hnm
  subst hl
  subst hg
  have hd : zDep X d := ⟨hd1, hd2⟩
  refine z_aload_n hX dJ11_compareTo_2_0 rfl (i := 0) rfl ?_
  obtain ⟨a2, f3, v1, r4, m5, e6, hw⟩ := hw
  refine z_get hX zc9 (k := 0) dJ11_compareTo_2_1 (Nat.le_of_ble_eq_true rfl) (zlk hX q1327) r4 m5 e6 ?_
  refine z_astore_n hX dJ11_compareTo_2_4 rfl (i := 2) (Nat.le_of_ble_eq_true rfl) (zc_rf _) (ls2 := [some (va_rf (some a0)), some (va_rf x1), some (va_rf v1), none, none]) rfl ?_
  refine z_aload_n hX dJ11_compareTo_2_5 rfl (i := 1) rfl ?_
  obtain ⟨a8, f9, v7, r10, m11, e12, hw⟩ := hw
  refine z_get hX zc9 (k := 0) dJ11_compareTo_2_6 (Nat.le_of_ble_eq_true rfl) (zlk hX q1327) r10 m11 e12 ?_
  refine z_astore_n hX dJ11_compareTo_2_9 rfl (i := 3) (Nat.le_of_ble_eq_true rfl) (zc_rf _) (ls2 := [some (va_rf (some a0)), some (va_rf x1), some (va_rf v1), some (va_rf v7), none]) rfl ?_
  refine z_aload_n hX dJ11_compareTo_2_10 rfl (i := 0) rfl ?_
  obtain ⟨a16, f17, r18, m19, hw⟩ := hw
  refine z_invV hX hd r18 (ci := 9) rfl rfl m19 dJ11_compareTo_2_11 (hC 356 _ zm356 _ _ _ _ hw) q1008 q1009 q1010 zh17 q1011 q146 zn356 rfl (Nat.le_of_ble_eq_true rfl) (st := []) rfl (zcs8 (Nat.le_of_ble_eq_true rfl)) rfl (zkI (fun v13 s14 hw => ?_)) (zout hX hR hTb)
  refine z_istore hX dJ11_compareTo_2_14 (i := 4) (Nat.le_of_ble_eq_true rfl) (zc_rf _) (ls2 := [some (va_rf (some a0)), some (va_rf x1), some (va_rf v1), some (va_rf v7), some (.int v13)]) rfl ?_
  refine z_iload hX dJ11_compareTo_2_16 (i := 4) rfl ?_
  refine z_aload_n hX dJ11_compareTo_2_18 rfl (i := 1) rfl ?_
  obtain ⟨a23, f24, r25, m26, hw⟩ := hw
  refine z_invV hX hd r25 (ci := 9) rfl rfl m26 dJ11_compareTo_2_19 (hC 356 _ zm356 _ _ _ _ hw) q1008 q1009 q1010 zh17 q1011 q146 zn356 rfl (Nat.le_of_ble_eq_true rfl) (st := [.int v13]) rfl (zcs8 (Nat.le_of_ble_eq_true rfl)) rfl (zkI (fun v20 s21 hw => ?_)) (zout hX hR hTb)
  refine z_icmp_ne hX dJ11_compareTo_2_22 (tgt := 44) rfl (fun c27 => ?_) (fun c27 => ?_)
  · have hw := hw.1 c27
    refine z_iload hX dJ11_compareTo_2_44 (i := 4) rfl ?_
    refine zJ_w (P := fun (j : Int32 → zS → Prop) => ∀ (p28 : Int32) (s29 : zS), j p28 s29 → zW X s29 62 [none, none, none, none, none] [.int p28]) hw (fun p28 s29 hw => ?_) (fun j30 hj30 hw => ?_)
    · exact z_ireturn hX hR dJ11_compareTo_2_62 rfl hw
    · refine z_if_ne hX dJ11_compareTo_2_46 (tgt := 57) rfl (fun c31 => ?_) (fun c31 => ?_)
      · have hw := hw.1 c31
        refine z_aload_n hX dJ11_compareTo_2_57 rfl (i := 2) rfl ?_
        refine z_aload_n hX dJ11_compareTo_2_58 rfl (i := 3) rfl ?_
        refine z_invS hX hd dJ11_compareTo_2_59 (hC 390 _ zm390 _ _ _ _ hw) q1966 q1967 zh18 q1968 q147 zn390 rfl (Nat.le_of_ble_eq_true rfl) (st := []) rfl (zcs8 (Nat.le_of_ble_eq_true rfl)) rfl (zkI (fun v32 s33 hw => ?_)) (zout hX hR hTb)
        refine z_sub (ls' := [none, none, none, none, none]) (zsN (zsN (zsN (zsN (zsN (zs0)))))) ?_
        exact hj30 _ _ hw
      · have hw := hw.2 c31
        refine z_aload_n hX dJ11_compareTo_2_49 rfl (i := 2) rfl ?_
        refine z_aload_n hX dJ11_compareTo_2_50 rfl (i := 3) rfl ?_
        refine z_invS hX hd dJ11_compareTo_2_51 (hC 422 _ zm422 _ _ _ _ hw) q1955 q1956 zh21 q1957 q151 zn422 rfl (Nat.le_of_ble_eq_true rfl) (st := []) rfl (zcs8 (Nat.le_of_ble_eq_true rfl)) rfl (zkI (fun v35 s36 hw => ?_)) (zout hX hR hTb)
        refine z_goto hX dJ11_compareTo_2_54 (tgt := 62) rfl ?_
        refine z_sub (ls' := [none, none, none, none, none]) (zsN (zsN (zsN (zsN (zsN (zs0)))))) ?_
        exact hj30 _ _ hw
  · have hw := hw.2 c27
    refine z_iload hX dJ11_compareTo_2_25 (i := 4) rfl ?_
    refine zJ_w (P := fun (j : Int32 → zS → Prop) => ∀ (p38 : Int32) (s39 : zS), j p38 s39 → zW X s39 43 [none, none, none, none, none] [.int p38]) hw (fun p38 s39 hw => ?_) (fun j40 hj40 hw => ?_)
    · exact z_ireturn hX hR dJ11_compareTo_2_43 rfl hw
    · refine z_if_ne hX dJ11_compareTo_2_27 (tgt := 38) rfl (fun c41 => ?_) (fun c41 => ?_)
      · have hw := hw.1 c41
        refine z_aload_n hX dJ11_compareTo_2_38 rfl (i := 2) rfl ?_
        refine z_aload_n hX dJ11_compareTo_2_39 rfl (i := 3) rfl ?_
        refine z_invS hX hd dJ11_compareTo_2_40 (hC 388 _ zm388 _ _ _ _ hw) q1948 q1949 zh18 q1950 q147 zn388 rfl (Nat.le_of_ble_eq_true rfl) (st := []) rfl (zcs8 (Nat.le_of_ble_eq_true rfl)) rfl (zkI (fun v42 s43 hw => ?_)) (zout hX hR hTb)
        refine z_sub (ls' := [none, none, none, none, none]) (zsN (zsN (zsN (zsN (zsN (zs0)))))) ?_
        exact hj40 _ _ hw
      · have hw := hw.2 c41
        refine z_aload_n hX dJ11_compareTo_2_30 rfl (i := 2) rfl ?_
        refine z_aload_n hX dJ11_compareTo_2_31 rfl (i := 3) rfl ?_
        refine z_invS hX hd dJ11_compareTo_2_32 (hC 419 _ zm419 _ _ _ _ hw) q1837 q1838 zh21 q1839 q151 zn419 rfl (Nat.le_of_ble_eq_true rfl) (st := []) rfl (zcs8 (Nat.le_of_ble_eq_true rfl)) rfl (zkI (fun v45 s46 hw => ?_)) (zout hX hR hTb)
        refine z_goto hX dJ11_compareTo_2_35 (tgt := 43) rfl ?_
        refine z_sub (ls' := [none, none, none, none, none]) (zsN (zsN (zsN (zsN (zsN (zs0)))))) ?_
        exact hj40 _ _ hw
abbrev cJ11_checkOffset : ByteArray := prog_45_method_156_code
def yJ11_checkOffset : MethodName := ⟨RJ11, "checkOffset", "(II)V"⟩
def dkwJ11_checkOffset_0 : List UInt8 := [26, 27, 27, 178, 4, 29, 184, 4, 38, 87, 177]
abbrev dktJ11_checkOffset_0 : List UInt8 := dkwJ11_checkOffset_0 ++ []
theorem dksJ11_checkOffset_0 : cJ11_checkOffset.data.toList.drop 0 = dktJ11_checkOffset_0 := by decide +kernel
theorem dJ11_checkOffset_0 : decode cJ11_checkOffset 0 = .ok (.iload_n 0, 1) := dk_26 (dk_at dksJ11_checkOffset_0 0 rfl rfl)
theorem dJ11_checkOffset_1 : decode cJ11_checkOffset 1 = .ok (.iload_n 1, 1) := dk_27 (dk_at dksJ11_checkOffset_0 1 rfl rfl)
theorem dJ11_checkOffset_2 : decode cJ11_checkOffset 2 = .ok (.iload_n 1, 1) := dk_27 (dk_at dksJ11_checkOffset_0 2 rfl rfl)
theorem dJ11_checkOffset_3 : decode cJ11_checkOffset 3 = .ok (.getstatic 1053, 3) := dk_178 4 29 (dk_at dksJ11_checkOffset_0 3 rfl rfl)
theorem dJ11_checkOffset_6 : decode cJ11_checkOffset 6 = .ok (.invokestatic 1062, 3) := dk_184 4 38 (dk_at dksJ11_checkOffset_0 6 rfl rfl)
theorem dJ11_checkOffset_9 : decode cJ11_checkOffset 9 = .ok (.pop, 1) := dk_87 (dk_at dksJ11_checkOffset_0 9 rfl rfl)
theorem dJ11_checkOffset_10 : decode cJ11_checkOffset 10 = .ok (.return_, 1) := dk_177 (dk_at dksJ11_checkOffset_0 10 rfl rfl)
/-- java/lang/String.checkOffset(II)V -/
def zb368 (G : zPg) (C : zO) (args : List Value) (Q : zQ) (Y : zY) (σ : zS) : Prop := ∃ (x1 : Int32) (x2 : Int32), args = [.int x1, .int x2] ∧ (zcl C 428 [.int x1, .int x2, .int x2, va_rf (zopt (G.2 62))] Y σ (zqI (fun v1 s2 => Q none s2)))
set_option maxHeartbeats 4000000 in
theorem wk368 {l : Launch} {g : zG} {d : Nat} {C : zO} (hG : zGk g) (hC : zSound l g d C) {args : List Value} {Q : zQ} {Y : zY} {σ : zS} (hw : zb368 (zpg g) C args Q Y σ) : zMet l g (d + 1) (⟨"java/lang/String", "checkOffset", "(II)V"⟩, Cond.code ⟨"java/lang/String", "checkOffset", "(II)V"⟩ prog_45_method_156_code 2 (Option.none : Option FieldType)) args σ Q Y := by
  obtain ⟨x1, x2, rfl, hw⟩ := hw
  refine zof hG (by decide +kernel) [false, false] ⟨rfl, rfl, trivial⟩ (Nat.le_of_ble_eq_true rfl) (ls := [some (.int x1), some (.int x2)]) rfl ?_
  intro X hX hR hTb hd1 hd2 hl hg hnm
  subst hl
  subst hg
  have hd : zDep X d := ⟨hd1, hd2⟩
  refine z_iload_n hX dJ11_checkOffset_0 rfl (i := 0) rfl ?_
  refine z_iload_n hX dJ11_checkOffset_1 rfl (i := 1) rfl ?_
  refine z_iload_n hX dJ11_checkOffset_2 rfl (i := 1) rfl ?_
  refine z_gets hX dJ11_checkOffset_3 (List.mem_of_getElem? (i := 12) rfl) q1031 rfl ?_
  show zW _ _ _ _ (va_rf (zopt (X.g.2.2.2 62)) :: _)
  refine z_invS hX hd dJ11_checkOffset_6 (hC 428 _ zm428 _ _ _ _ hw) q1200 q1201 zh22 q1202 q152 zn428 rfl (Nat.le_of_ble_eq_true rfl) (st := []) rfl (zcs8 (Nat.le_of_ble_eq_true rfl)) rfl (zkI (fun v1 s2 hw => ?_)) (zout hX hR hTb)
  refine z_pop hX dJ11_checkOffset_9 rfl ?_
  exact z_return hX hR dJ11_checkOffset_10 hw
abbrev cJ11_hashCode : ByteArray := prog_45_method_78_code
def yJ11_hashCode : MethodName := ⟨RJ11, "hashCode", "()I"⟩
def dkwJ11_hashCode_2 : List UInt8 := [181, 0, 23, 167, 0, 8, 42, 27, 181, 0, 19, 27, 172]
abbrev dktJ11_hashCode_2 : List UInt8 := dkwJ11_hashCode_2 ++ []
def dkwJ11_hashCode_1 : List UInt8 := [180, 0, 9, 184, 2, 116, 167, 0, 10, 42, 180, 0, 9, 184, 2, 120, 60, 27, 154, 0, 11, 42, 4]
abbrev dktJ11_hashCode_1 : List UInt8 := dkwJ11_hashCode_1 ++ dktJ11_hashCode_2
def dkwJ11_hashCode_0 : List UInt8 := [42, 180, 0, 19, 60, 27, 154, 0, 52, 42, 180, 0, 23, 154, 0, 45, 42, 182, 1, 236, 153, 0, 13, 42]
abbrev dktJ11_hashCode_0 : List UInt8 := dkwJ11_hashCode_0 ++ dktJ11_hashCode_1
theorem dksJ11_hashCode_0 : cJ11_hashCode.data.toList.drop 0 = dktJ11_hashCode_0 := by decide +kernel
theorem dksJ11_hashCode_1 : cJ11_hashCode.data.toList.drop 24 = dktJ11_hashCode_1 := dk_seg dksJ11_hashCode_0 24 rfl rfl
theorem dksJ11_hashCode_2 : cJ11_hashCode.data.toList.drop 47 = dktJ11_hashCode_2 := dk_seg dksJ11_hashCode_1 23 rfl rfl
theorem dJ11_hashCode_0 : decode cJ11_hashCode 0 = .ok (.aload_n 0, 1) := dk_42 (dk_at dksJ11_hashCode_0 0 rfl rfl)
theorem dJ11_hashCode_1 : decode cJ11_hashCode 1 = .ok (.getfield 19, 3) := dk_180 0 19 (dk_at dksJ11_hashCode_0 1 rfl rfl)
theorem dJ11_hashCode_4 : decode cJ11_hashCode 4 = .ok (.istore_n 1, 1) := dk_60 (dk_at dksJ11_hashCode_0 4 rfl rfl)
theorem dJ11_hashCode_5 : decode cJ11_hashCode 5 = .ok (.iload_n 1, 1) := dk_27 (dk_at dksJ11_hashCode_0 5 rfl rfl)
theorem dJ11_hashCode_6 : decode cJ11_hashCode 6 = .ok (.ifCond .ne 52, 3) := dk_154 0 52 (dk_at dksJ11_hashCode_0 6 rfl rfl)
theorem dJ11_hashCode_9 : decode cJ11_hashCode 9 = .ok (.aload_n 0, 1) := dk_42 (dk_at dksJ11_hashCode_0 9 rfl rfl)
theorem dJ11_hashCode_10 : decode cJ11_hashCode 10 = .ok (.getfield 23, 3) := dk_180 0 23 (dk_at dksJ11_hashCode_0 10 rfl rfl)
theorem dJ11_hashCode_13 : decode cJ11_hashCode 13 = .ok (.ifCond .ne 45, 3) := dk_154 0 45 (dk_at dksJ11_hashCode_0 13 rfl rfl)
theorem dJ11_hashCode_16 : decode cJ11_hashCode 16 = .ok (.aload_n 0, 1) := dk_42 (dk_at dksJ11_hashCode_0 16 rfl rfl)
theorem dJ11_hashCode_17 : decode cJ11_hashCode 17 = .ok (.invokevirtual 492, 3) := dk_182 1 236 (dk_at dksJ11_hashCode_0 17 rfl rfl)
theorem dJ11_hashCode_20 : decode cJ11_hashCode 20 = .ok (.ifCond .eq 13, 3) := dk_153 0 13 (dk_at dksJ11_hashCode_0 20 rfl rfl)
theorem dJ11_hashCode_23 : decode cJ11_hashCode 23 = .ok (.aload_n 0, 1) := dk_42 (dk_at dksJ11_hashCode_0 23 rfl rfl)
theorem dJ11_hashCode_24 : decode cJ11_hashCode 24 = .ok (.getfield 9, 3) := dk_180 0 9 (dk_at dksJ11_hashCode_1 0 rfl rfl)
theorem dJ11_hashCode_27 : decode cJ11_hashCode 27 = .ok (.invokestatic 628, 3) := dk_184 2 116 (dk_at dksJ11_hashCode_1 3 rfl rfl)
theorem dJ11_hashCode_30 : decode cJ11_hashCode 30 = .ok (.goto 10, 3) := dk_167 0 10 (dk_at dksJ11_hashCode_1 6 rfl rfl)
theorem dJ11_hashCode_33 : decode cJ11_hashCode 33 = .ok (.aload_n 0, 1) := dk_42 (dk_at dksJ11_hashCode_1 9 rfl rfl)
theorem dJ11_hashCode_34 : decode cJ11_hashCode 34 = .ok (.getfield 9, 3) := dk_180 0 9 (dk_at dksJ11_hashCode_1 10 rfl rfl)
theorem dJ11_hashCode_37 : decode cJ11_hashCode 37 = .ok (.invokestatic 632, 3) := dk_184 2 120 (dk_at dksJ11_hashCode_1 13 rfl rfl)
theorem dJ11_hashCode_40 : decode cJ11_hashCode 40 = .ok (.istore_n 1, 1) := dk_60 (dk_at dksJ11_hashCode_1 16 rfl rfl)
theorem dJ11_hashCode_41 : decode cJ11_hashCode 41 = .ok (.iload_n 1, 1) := dk_27 (dk_at dksJ11_hashCode_1 17 rfl rfl)
theorem dJ11_hashCode_42 : decode cJ11_hashCode 42 = .ok (.ifCond .ne 11, 3) := dk_154 0 11 (dk_at dksJ11_hashCode_1 18 rfl rfl)
theorem dJ11_hashCode_45 : decode cJ11_hashCode 45 = .ok (.aload_n 0, 1) := dk_42 (dk_at dksJ11_hashCode_1 21 rfl rfl)
theorem dJ11_hashCode_46 : decode cJ11_hashCode 46 = .ok (.iconst 1, 1) := dk_4 (dk_at dksJ11_hashCode_1 22 rfl rfl)
theorem dJ11_hashCode_47 : decode cJ11_hashCode 47 = .ok (.putfield 23, 3) := dk_181 0 23 (dk_at dksJ11_hashCode_2 0 rfl rfl)
theorem dJ11_hashCode_50 : decode cJ11_hashCode 50 = .ok (.goto 8, 3) := dk_167 0 8 (dk_at dksJ11_hashCode_2 3 rfl rfl)
theorem dJ11_hashCode_53 : decode cJ11_hashCode 53 = .ok (.aload_n 0, 1) := dk_42 (dk_at dksJ11_hashCode_2 6 rfl rfl)
theorem dJ11_hashCode_54 : decode cJ11_hashCode 54 = .ok (.iload_n 1, 1) := dk_27 (dk_at dksJ11_hashCode_2 7 rfl rfl)
theorem dJ11_hashCode_55 : decode cJ11_hashCode 55 = .ok (.putfield 19, 3) := dk_181 0 19 (dk_at dksJ11_hashCode_2 8 rfl rfl)
theorem dJ11_hashCode_58 : decode cJ11_hashCode 58 = .ok (.iload_n 1, 1) := dk_27 (dk_at dksJ11_hashCode_2 11 rfl rfl)
theorem dJ11_hashCode_59 : decode cJ11_hashCode 59 = .ok (.ireturn, 1) := dk_172 (dk_at dksJ11_hashCode_2 12 rfl rfl)
/-- java/lang/String.hashCode()I -/
def zb369 (G : zPg) (C : zO) (args : List Value) (Q : zQ) (Y : zY) (σ : zS) : Prop := ∃ (a0 : Nat), args = [.ref a0] ∧ (zgI σ (some a0) 9 2 (fun v1 => zJ (fun (p7 : Int32) (s8 : zS) => Q (some (.int p7)) s8) (fun (j9 : Int32 → zS → Prop) => ((¬ v1 = 0) → j9 v1 σ) ∧ ((v1 = 0) → zgI σ (some a0) 9 3 (fun v11 => ((¬ v11 = 0) → j9 v1 σ) ∧ ((v11 = 0) → zrc σ (some a0) 9 (fun a21 => zcl C 358 [.ref a21] Y σ (zqI (fun v18 s19 => zJ (fun (p25 : Int32) (s26 : zS) => ((¬ p25 = 0) → zput s26 G.1 (some a0) 9 2 (.int p25) (fun s29 => j9 p25 s29)) ∧ ((p25 = 0) → (zbool (1 : Int32) ∧ zput s26 G.1 (some a0) 9 3 (.int (1 : Int32)) (fun s37 => j9 p25 s37)))) (fun (j27 : Int32 → zS → Prop) => ((v18 = 0) → zgR s19 (some a0) 9 0 (fun v47 => zcl C 394 [va_rf v47] Y s19 (zqI (fun v53 s54 => j27 v53 s54)))) ∧ ((¬ v18 = 0) → zgR s19 (some a0) 9 0 (fun v56 => zcl C 426 [va_rf v56] Y s19 (zqI (fun v62 s63 => j27 v62 s63))))))))))))))
set_option maxHeartbeats 4000000 in
theorem wk369 {l : Launch} {g : zG} {d : Nat} {C : zO} (hG : zGk g) (hC : zSound l g d C) {args : List Value} {Q : zQ} {Y : zY} {σ : zS} (hw : zb369 (zpg g) C args Q Y σ) : zMet l g (d + 1) (⟨"java/lang/String", "hashCode", "()I"⟩, Cond.code ⟨"java/lang/String", "hashCode", "()I"⟩ prog_45_method_78_code 2 (Option.some FieldType.int)) args σ Q Y := by
  obtain ⟨a0, rfl, hw⟩ := hw
  refine zof hG (by decide +kernel) [false] ⟨rfl, trivial⟩ (Nat.le_of_ble_eq_true rfl) (ls := [some (va_rf (some a0)), none]) rfl ?_
  intro X hX hR hTb hd1 hd2 hl hg hnm
  subst hl
  subst hg
  have hd : zDep X d := ⟨hd1, hd2⟩
  refine z_aload_n hX dJ11_hashCode_0 rfl (i := 0) rfl ?_
  obtain ⟨a2, f3, v1, r4, m5, e6, hw⟩ := hw
  refine z_get hX zc9 (k := 2) dJ11_hashCode_1 (Nat.le_of_ble_eq_true rfl) (zlk hX q1329) r4 m5 e6 ?_
  refine z_istore_n hX dJ11_hashCode_4 rfl (i := 1) (Nat.le_of_ble_eq_true rfl) (zc_rf _) (ls2 := [some (va_rf (some a0)), some (.int v1)]) rfl ?_
  refine z_iload_n hX dJ11_hashCode_5 rfl (i := 1) rfl ?_
  refine zJ_w (P := fun (j : Int32 → zS → Prop) => ∀ (p7 : Int32) (s8 : zS), j p7 s8 → zW X s8 58 [none, some (.int p7)] []) hw (fun p7 s8 hw => ?_) (fun j9 hj9 hw => ?_)
  · refine z_iload_n hX dJ11_hashCode_58 rfl (i := 1) rfl ?_
    exact z_ireturn hX hR dJ11_hashCode_59 rfl hw
  · refine z_if_ne hX dJ11_hashCode_6 (tgt := 58) rfl (fun c10 => ?_) (fun c10 => ?_)
    · have hw := hw.1 c10
      refine z_sub (ls' := [none, some (.int v1)]) (zsN (zsS (zs0))) ?_
      exact hj9 _ _ hw
    · have hw := hw.2 c10
      refine z_aload_n hX dJ11_hashCode_9 rfl (i := 0) rfl ?_
      obtain ⟨a12, f13, v11, r14, m15, e16, hw⟩ := hw
      refine z_get hX zc9 (k := 3) dJ11_hashCode_10 (Nat.le_of_ble_eq_true rfl) (zlk hX q1330) r14 m15 e16 ?_
      refine z_if_ne hX dJ11_hashCode_13 (tgt := 58) rfl (fun c17 => ?_) (fun c17 => ?_)
      · have hw := hw.1 c17
        refine z_sub (ls' := [none, some (.int v1)]) (zsN (zsS (zs0))) ?_
        exact hj9 _ _ hw
      · have hw := hw.2 c17
        refine z_aload_n hX dJ11_hashCode_16 rfl (i := 0) rfl ?_
        obtain ⟨a21, f22, r23, m24, hw⟩ := hw
        refine z_invV hX hd r23 (ci := 9) rfl rfl m24 dJ11_hashCode_17 (hC 358 _ zm358 _ _ _ _ hw) q1021 q1022 q1023 zh17 q1024 q146 zn358 rfl (Nat.le_of_ble_eq_true rfl) (st := []) rfl (zcs8 (Nat.le_of_ble_eq_true rfl)) rfl (zkI (fun v18 s19 hw => ?_)) (zout hX hR hTb)
        refine zJ_w (P := fun (j : Int32 → zS → Prop) => ∀ (p25 : Int32) (s26 : zS), j p25 s26 → zW X s26 40 [some (va_rf (some a0)), none] [.int p25]) hw (fun p25 s26 hw => ?_) (fun j27 hj27 hw => ?_)
        · refine z_istore_n hX dJ11_hashCode_40 rfl (i := 1) (Nat.le_of_ble_eq_true rfl) (zc_rf _) (ls2 := [some (va_rf (some a0)), some (.int p25)]) rfl ?_
          refine z_iload_n hX dJ11_hashCode_41 rfl (i := 1) rfl ?_
          refine z_if_ne hX dJ11_hashCode_42 (tgt := 53) rfl (fun c28 => ?_) (fun c28 => ?_)
          · have hw := hw.1 c28
            refine z_aload_n hX dJ11_hashCode_53 rfl (i := 0) rfl ?_
            refine z_iload_n hX dJ11_hashCode_54 rfl (i := 1) rfl ?_
            obtain ⟨a31, f32, r33, g34, m35, l36, hw⟩ := hw
            refine z_put hX zc9 (k := 2) dJ11_hashCode_55 (Nat.le_of_ble_eq_true rfl) (zlk hX q1329) rfl rfl rfl r33 g34 m35 l36 (z_nm (fun s29 e30 => ?_))
            have hw := hw s29 e30
            refine z_sub (ls' := [none, some (.int p25)]) (zsN (zsS (zs0))) ?_
            exact hj9 _ _ hw
          · have hw := hw.2 c28
            refine z_aload_n hX dJ11_hashCode_45 rfl (i := 0) rfl ?_
            refine z_iconst hX (v := (1 : Int32)) dJ11_hashCode_46 (by decide) ?_
            obtain ⟨b45, hw⟩ := hw
            obtain ⟨a39, f40, r41, g42, m43, l44, hw⟩ := hw
            refine z_put hX zc9 (k := 3) dJ11_hashCode_47 (Nat.le_of_ble_eq_true rfl) (zlk hX q1330) rfl (zn_z b45) (zf_z b45) r41 g42 m43 l44 (z_nm (fun s37 e38 => ?_))
            have hw := hw s37 e38
            refine z_goto hX dJ11_hashCode_50 (tgt := 58) rfl ?_
            refine z_sub (ls' := [none, some (.int p25)]) (zsN (zsS (zs0))) ?_
            exact hj9 _ _ hw
        · refine z_if_eq hX dJ11_hashCode_20 (tgt := 33) rfl (fun c46 => ?_) (fun c46 => ?_)
          · have hw := hw.1 c46
            refine z_aload_n hX dJ11_hashCode_33 rfl (i := 0) rfl ?_
            obtain ⟨a48, f49, v47, r50, m51, e52, hw⟩ := hw
            refine z_get hX zc9 (k := 0) dJ11_hashCode_34 (Nat.le_of_ble_eq_true rfl) (zlk hX q1327) r50 m51 e52 ?_
            refine z_invS hX hd dJ11_hashCode_37 (hC 394 _ zm394 _ _ _ _ hw) q2338 q2339 zh18 q2340 q147 zn394 rfl (Nat.le_of_ble_eq_true rfl) (st := []) rfl (zcs8 (Nat.le_of_ble_eq_true rfl)) rfl (zkI (fun v53 s54 hw => ?_)) (zout hX hR hTb)
            refine z_sub (ls' := [some (va_rf (some a0)), none]) (zsS (zsN (zs0))) ?_
            exact hj27 _ _ hw
          · have hw := hw.2 c46
            refine z_aload_n hX dJ11_hashCode_23 rfl (i := 0) rfl ?_
            obtain ⟨a57, f58, v56, r59, m60, e61, hw⟩ := hw
            refine z_get hX zc9 (k := 0) dJ11_hashCode_24 (Nat.le_of_ble_eq_true rfl) (zlk hX q1327) r59 m60 e61 ?_
            refine z_invS hX hd dJ11_hashCode_27 (hC 426 _ zm426 _ _ _ _ hw) q2289 q2290 zh21 q2291 q151 zn426 rfl (Nat.le_of_ble_eq_true rfl) (st := []) rfl (zcs8 (Nat.le_of_ble_eq_true rfl)) rfl (zkI (fun v62 s63 hw => ?_)) (zout hX hR hTb)
            refine z_goto hX dJ11_hashCode_30 (tgt := 40) rfl ?_
            refine z_sub (ls' := [some (va_rf (some a0)), none]) (zsS (zsN (zs0))) ?_
            exact hj27 _ _ hw
def RJ13 : String := "jdk/internal/util/ArraysSupport"
abbrev cJ13_newLength : ByteArray := prog_73_method_27_code
def yJ13_newLength : MethodName := ⟨RJ13, "newLength", "(III)I"⟩
def dkwJ13_newLength_1 : List UInt8 := [184, 0, 201, 172]
abbrev dktJ13_newLength_1 : List UInt8 := dkwJ13_newLength_1 ++ []
def dkwJ13_newLength_0 : List UInt8 := [26, 27, 28, 184, 0, 194, 96, 62, 3, 29, 162, 0, 11, 29, 18, 200, 163, 0, 5, 29, 172, 26, 27]
abbrev dktJ13_newLength_0 : List UInt8 := dkwJ13_newLength_0 ++ dktJ13_newLength_1
theorem dksJ13_newLength_0 : cJ13_newLength.data.toList.drop 0 = dktJ13_newLength_0 := by decide +kernel
theorem dksJ13_newLength_1 : cJ13_newLength.data.toList.drop 23 = dktJ13_newLength_1 := dk_seg dksJ13_newLength_0 23 rfl rfl
theorem dJ13_newLength_0 : decode cJ13_newLength 0 = .ok (.iload_n 0, 1) := dk_26 (dk_at dksJ13_newLength_0 0 rfl rfl)
theorem dJ13_newLength_1 : decode cJ13_newLength 1 = .ok (.iload_n 1, 1) := dk_27 (dk_at dksJ13_newLength_0 1 rfl rfl)
theorem dJ13_newLength_2 : decode cJ13_newLength 2 = .ok (.iload_n 2, 1) := dk_28 (dk_at dksJ13_newLength_0 2 rfl rfl)
theorem dJ13_newLength_3 : decode cJ13_newLength 3 = .ok (.invokestatic 194, 3) := dk_184 0 194 (dk_at dksJ13_newLength_0 3 rfl rfl)
theorem dJ13_newLength_6 : decode cJ13_newLength 6 = .ok (.iadd, 1) := dk_96 (dk_at dksJ13_newLength_0 6 rfl rfl)
theorem dJ13_newLength_7 : decode cJ13_newLength 7 = .ok (.istore_n 3, 1) := dk_62 (dk_at dksJ13_newLength_0 7 rfl rfl)
theorem dJ13_newLength_8 : decode cJ13_newLength 8 = .ok (.iconst 0, 1) := dk_3 (dk_at dksJ13_newLength_0 8 rfl rfl)
theorem dJ13_newLength_9 : decode cJ13_newLength 9 = .ok (.iload_n 3, 1) := dk_29 (dk_at dksJ13_newLength_0 9 rfl rfl)
theorem dJ13_newLength_10 : decode cJ13_newLength 10 = .ok (.if_icmp .ge 11, 3) := dk_162 0 11 (dk_at dksJ13_newLength_0 10 rfl rfl)
theorem dJ13_newLength_13 : decode cJ13_newLength 13 = .ok (.iload_n 3, 1) := dk_29 (dk_at dksJ13_newLength_0 13 rfl rfl)
theorem dJ13_newLength_14 : decode cJ13_newLength 14 = .ok (.ldc 200, 2) := dk_18 200 (dk_at dksJ13_newLength_0 14 rfl rfl)
theorem dJ13_newLength_16 : decode cJ13_newLength 16 = .ok (.if_icmp .gt 5, 3) := dk_163 0 5 (dk_at dksJ13_newLength_0 16 rfl rfl)
theorem dJ13_newLength_19 : decode cJ13_newLength 19 = .ok (.iload_n 3, 1) := dk_29 (dk_at dksJ13_newLength_0 19 rfl rfl)
theorem dJ13_newLength_20 : decode cJ13_newLength 20 = .ok (.ireturn, 1) := dk_172 (dk_at dksJ13_newLength_0 20 rfl rfl)
theorem dJ13_newLength_21 : decode cJ13_newLength 21 = .ok (.iload_n 0, 1) := dk_26 (dk_at dksJ13_newLength_0 21 rfl rfl)
theorem dJ13_newLength_22 : decode cJ13_newLength 22 = .ok (.iload_n 1, 1) := dk_27 (dk_at dksJ13_newLength_0 22 rfl rfl)
theorem dJ13_newLength_23 : decode cJ13_newLength 23 = .ok (.invokestatic 201, 3) := dk_184 0 201 (dk_at dksJ13_newLength_1 0 rfl rfl)
theorem dJ13_newLength_26 : decode cJ13_newLength 26 = .ok (.ireturn, 1) := dk_172 (dk_at dksJ13_newLength_1 3 rfl rfl)
/-- jdk/internal/util/ArraysSupport.newLength(III)I -/
def zb395 (G : zPg) (C : zO) (args : List Value) (Q : zQ) (Y : zY) (σ : zS) : Prop := ∃ (x1 : Int32) (x2 : Int32) (x3 : Int32), args = [.int x1, .int x2, .int x3] ∧ (zcl C 297 [.int x2, .int x3] Y σ (zqI (fun v1 s2 => zJ (fun  (s4 : zS) => zcl C 396 [.int x1, .int x2] Y s4 (zqI (fun v6 s7 => Q (some (.int v6)) s7))) (fun (j5 : zS → Prop) => (((x1 + v1) ≤ (0 : Int32)) → j5 s2) ∧ ((¬ (x1 + v1) ≤ (0 : Int32)) → (((2147483639 : Int32) < (x1 + v1)) → j5 s2) ∧ ((¬ (2147483639 : Int32) < (x1 + v1)) → Q (some (.int (x1 + v1))) s2))))))
set_option maxHeartbeats 4000000 in
theorem wk395 {l : Launch} {g : zG} {d : Nat} {C : zO} (hG : zGk g) (hC : zSound l g d C) {args : List Value} {Q : zQ} {Y : zY} {σ : zS} (hw : zb395 (zpg g) C args Q Y σ) : zMet l g (d + 1) (⟨"jdk/internal/util/ArraysSupport", "newLength", "(III)I"⟩, Cond.code ⟨"jdk/internal/util/ArraysSupport", "newLength", "(III)I"⟩ prog_73_method_27_code 4 (Option.some FieldType.int)) args σ Q Y := by
  obtain ⟨x1, x2, x3, rfl, hw⟩ := hw
  refine zof hG (by decide +kernel) [false, false, false] ⟨rfl, rfl, rfl, trivial⟩ (Nat.le_of_ble_eq_true rfl) (ls := [some (.int x1), some (.int x2), some (.int x3), none]) rfl ?_
  intro X hX hR hTb hd1 hd2 hl hg hnm
  subst hl
  subst hg
  have hd : zDep X d := ⟨hd1, hd2⟩
  refine z_iload_n hX dJ13_newLength_0 rfl (i := 0) rfl ?_
  refine z_iload_n hX dJ13_newLength_1 rfl (i := 1) rfl ?_
  refine z_iload_n hX dJ13_newLength_2 rfl (i := 2) rfl ?_
  refine z_invS hX hd dJ13_newLength_3 (hC 297 _ zm297 _ _ _ _ hw) q783 q710 zh8 q711 q137 zn297 rfl (Nat.le_of_ble_eq_true rfl) (st := [.int x1]) rfl (zcs8 (Nat.le_of_ble_eq_true rfl)) rfl (zkI (fun v1 s2 hw => ?_)) (zout hX hR hTb)
  refine z_iadd hX dJ13_newLength_6 ?_
  refine z_istore_n hX dJ13_newLength_7 rfl (i := 3) (Nat.le_of_ble_eq_true rfl) rfl (ls2 := [some (.int x1), some (.int x2), some (.int x3), some (.int (x1 + v1))]) rfl ?_
  refine z_iconst hX (v := (0 : Int32)) dJ13_newLength_8 (by decide) ?_
  refine z_iload_n hX dJ13_newLength_9 rfl (i := 3) rfl ?_
  refine zJ_w (P := fun (j : zS → Prop) => ∀  (s4 : zS), j  s4 → zW X s4 21 [some (.int x1), some (.int x2), none, none] []) hw (fun  s4 hw => ?_) (fun j5 hj5 hw => ?_)
  · refine z_iload_n hX dJ13_newLength_21 rfl (i := 0) rfl ?_
    refine z_iload_n hX dJ13_newLength_22 rfl (i := 1) rfl ?_
    refine z_invS hX hd dJ13_newLength_23 (hC 396 _ zm396 _ _ _ _ hw) q785 q786 zh19 q787 q148 zn396 rfl (Nat.le_of_ble_eq_true rfl) (st := []) rfl (zcs8 (Nat.le_of_ble_eq_true rfl)) rfl (zkI (fun v6 s7 hw => ?_)) (zout hX hR hTb)
    exact z_ireturn hX hR dJ13_newLength_26 rfl hw
  · refine z_icmp_ge hX dJ13_newLength_10 (tgt := 21) rfl (fun c9 => ?_) (fun c9 => ?_)
    · have hw := hw.1 c9
      refine z_sub (ls' := [some (.int x1), some (.int x2), none, none]) (zsS (zsS (zsN (zsN (zs0))))) ?_
      exact hj5  _ hw
    · have hw := hw.2 c9
      refine z_iload_n hX dJ13_newLength_13 rfl (i := 3) rfl ?_
      refine z_ldc hX dJ13_newLength_14 q784 ?_
      refine z_icmp_gt hX dJ13_newLength_16 (tgt := 21) rfl (fun c10 => ?_) (fun c10 => ?_)
      · have hw := hw.1 c10
        refine z_sub (ls' := [some (.int x1), some (.int x2), none, none]) (zsS (zsS (zsN (zsN (zs0))))) ?_
        exact hj5  _ hw
      · have hw := hw.2 c10
        refine z_iload_n hX dJ13_newLength_19 rfl (i := 3) rfl ?_
        exact z_ireturn hX hR dJ13_newLength_20 rfl hw
abbrev cJ13_hugeLength : ByteArray := prog_73_method_28_code
def yJ13_hugeLength : MethodName := ⟨RJ13, "hugeLength", "(II)I"⟩
def dkwJ13_hugeLength_2 : List UInt8 := [191, 28, 18, 200, 163, 0, 6, 18, 200, 172, 28, 172]
abbrev dktJ13_hugeLength_2 : List UInt8 := dkwJ13_hugeLength_2 ++ []
def dkwJ13_hugeLength_1 : List UInt8 := [26, 182, 0, 98, 18, 208, 182, 0, 94, 27, 182, 0, 98, 18, 210, 182, 0, 94, 182, 0, 101, 183, 0, 212]
abbrev dktJ13_hugeLength_1 : List UInt8 := dkwJ13_hugeLength_1 ++ dktJ13_hugeLength_2
def dkwJ13_hugeLength_0 : List UInt8 := [26, 27, 96, 61, 28, 156, 0, 44, 187, 0, 204, 89, 187, 0, 89, 89, 183, 0, 91, 18, 206, 182, 0, 94]
abbrev dktJ13_hugeLength_0 : List UInt8 := dkwJ13_hugeLength_0 ++ dktJ13_hugeLength_1
theorem dksJ13_hugeLength_0 : cJ13_hugeLength.data.toList.drop 0 = dktJ13_hugeLength_0 := by decide +kernel
theorem dksJ13_hugeLength_1 : cJ13_hugeLength.data.toList.drop 24 = dktJ13_hugeLength_1 := dk_seg dksJ13_hugeLength_0 24 rfl rfl
theorem dksJ13_hugeLength_2 : cJ13_hugeLength.data.toList.drop 48 = dktJ13_hugeLength_2 := dk_seg dksJ13_hugeLength_1 24 rfl rfl
theorem dJ13_hugeLength_0 : decode cJ13_hugeLength 0 = .ok (.iload_n 0, 1) := dk_26 (dk_at dksJ13_hugeLength_0 0 rfl rfl)
theorem dJ13_hugeLength_1 : decode cJ13_hugeLength 1 = .ok (.iload_n 1, 1) := dk_27 (dk_at dksJ13_hugeLength_0 1 rfl rfl)
theorem dJ13_hugeLength_2 : decode cJ13_hugeLength 2 = .ok (.iadd, 1) := dk_96 (dk_at dksJ13_hugeLength_0 2 rfl rfl)
theorem dJ13_hugeLength_3 : decode cJ13_hugeLength 3 = .ok (.istore_n 2, 1) := dk_61 (dk_at dksJ13_hugeLength_0 3 rfl rfl)
theorem dJ13_hugeLength_4 : decode cJ13_hugeLength 4 = .ok (.iload_n 2, 1) := dk_28 (dk_at dksJ13_hugeLength_0 4 rfl rfl)
theorem dJ13_hugeLength_5 : decode cJ13_hugeLength 5 = .ok (.ifCond .ge 44, 3) := dk_156 0 44 (dk_at dksJ13_hugeLength_0 5 rfl rfl)
theorem dJ13_hugeLength_8 : decode cJ13_hugeLength 8 = .ok (.new 204, 3) := dk_187 0 204 (dk_at dksJ13_hugeLength_0 8 rfl rfl)
theorem dJ13_hugeLength_11 : decode cJ13_hugeLength 11 = .ok (.dup, 1) := dk_89 (dk_at dksJ13_hugeLength_0 11 rfl rfl)
theorem dJ13_hugeLength_12 : decode cJ13_hugeLength 12 = .ok (.new 89, 3) := dk_187 0 89 (dk_at dksJ13_hugeLength_0 12 rfl rfl)
theorem dJ13_hugeLength_15 : decode cJ13_hugeLength 15 = .ok (.dup, 1) := dk_89 (dk_at dksJ13_hugeLength_0 15 rfl rfl)
theorem dJ13_hugeLength_16 : decode cJ13_hugeLength 16 = .ok (.invokespecial 91, 3) := dk_183 0 91 (dk_at dksJ13_hugeLength_0 16 rfl rfl)
theorem dJ13_hugeLength_19 : decode cJ13_hugeLength 19 = .ok (.ldc 206, 2) := dk_18 206 (dk_at dksJ13_hugeLength_0 19 rfl rfl)
theorem dJ13_hugeLength_21 : decode cJ13_hugeLength 21 = .ok (.invokevirtual 94, 3) := dk_182 0 94 (dk_at dksJ13_hugeLength_0 21 rfl rfl)
theorem dJ13_hugeLength_24 : decode cJ13_hugeLength 24 = .ok (.iload_n 0, 1) := dk_26 (dk_at dksJ13_hugeLength_1 0 rfl rfl)
theorem dJ13_hugeLength_25 : decode cJ13_hugeLength 25 = .ok (.invokevirtual 98, 3) := dk_182 0 98 (dk_at dksJ13_hugeLength_1 1 rfl rfl)
theorem dJ13_hugeLength_28 : decode cJ13_hugeLength 28 = .ok (.ldc 208, 2) := dk_18 208 (dk_at dksJ13_hugeLength_1 4 rfl rfl)
theorem dJ13_hugeLength_30 : decode cJ13_hugeLength 30 = .ok (.invokevirtual 94, 3) := dk_182 0 94 (dk_at dksJ13_hugeLength_1 6 rfl rfl)
theorem dJ13_hugeLength_33 : decode cJ13_hugeLength 33 = .ok (.iload_n 1, 1) := dk_27 (dk_at dksJ13_hugeLength_1 9 rfl rfl)
theorem dJ13_hugeLength_34 : decode cJ13_hugeLength 34 = .ok (.invokevirtual 98, 3) := dk_182 0 98 (dk_at dksJ13_hugeLength_1 10 rfl rfl)
theorem dJ13_hugeLength_37 : decode cJ13_hugeLength 37 = .ok (.ldc 210, 2) := dk_18 210 (dk_at dksJ13_hugeLength_1 13 rfl rfl)
theorem dJ13_hugeLength_39 : decode cJ13_hugeLength 39 = .ok (.invokevirtual 94, 3) := dk_182 0 94 (dk_at dksJ13_hugeLength_1 15 rfl rfl)
theorem dJ13_hugeLength_42 : decode cJ13_hugeLength 42 = .ok (.invokevirtual 101, 3) := dk_182 0 101 (dk_at dksJ13_hugeLength_1 18 rfl rfl)
theorem dJ13_hugeLength_45 : decode cJ13_hugeLength 45 = .ok (.invokespecial 212, 3) := dk_183 0 212 (dk_at dksJ13_hugeLength_1 21 rfl rfl)
theorem dJ13_hugeLength_48 : decode cJ13_hugeLength 48 = .ok (.athrow, 1) := dk_191 (dk_at dksJ13_hugeLength_2 0 rfl rfl)
theorem dJ13_hugeLength_49 : decode cJ13_hugeLength 49 = .ok (.iload_n 2, 1) := dk_28 (dk_at dksJ13_hugeLength_2 1 rfl rfl)
theorem dJ13_hugeLength_50 : decode cJ13_hugeLength 50 = .ok (.ldc 200, 2) := dk_18 200 (dk_at dksJ13_hugeLength_2 2 rfl rfl)
theorem dJ13_hugeLength_52 : decode cJ13_hugeLength 52 = .ok (.if_icmp .gt 6, 3) := dk_163 0 6 (dk_at dksJ13_hugeLength_2 4 rfl rfl)
theorem dJ13_hugeLength_55 : decode cJ13_hugeLength 55 = .ok (.ldc 200, 2) := dk_18 200 (dk_at dksJ13_hugeLength_2 7 rfl rfl)
theorem dJ13_hugeLength_57 : decode cJ13_hugeLength 57 = .ok (.ireturn, 1) := dk_172 (dk_at dksJ13_hugeLength_2 9 rfl rfl)
theorem dJ13_hugeLength_58 : decode cJ13_hugeLength 58 = .ok (.iload_n 2, 1) := dk_28 (dk_at dksJ13_hugeLength_2 10 rfl rfl)
theorem dJ13_hugeLength_59 : decode cJ13_hugeLength 59 = .ok (.ireturn, 1) := dk_172 (dk_at dksJ13_hugeLength_2 11 rfl rfl)
/-- jdk/internal/util/ArraysSupport.hugeLength(II)I -/
def zb396 (G : zPg) (C : zO) (args : List Value) (Q : zQ) (Y : zY) (σ : zS) : Prop := ∃ (x1 : Int32) (x2 : Int32), args = [.int x1, .int x2] ∧ (((0 ≤ (x1 + x2)) → (((2147483639 : Int32) < (x1 + x2)) → Q (some (.int (x1 + x2))) σ) ∧ ((¬ (2147483639 : Int32) < (x1 + x2)) → Q (some (.int (2147483639 : Int32))) σ)) ∧ ((¬ 0 ≤ (x1 + x2)) → False))
set_option maxHeartbeats 4000000 in
theorem wk396 {l : Launch} {g : zG} {d : Nat} {C : zO} (hG : zGk g) (hC : zSound l g d C) {args : List Value} {Q : zQ} {Y : zY} {σ : zS} (hw : zb396 (zpg g) C args Q Y σ) : zMet l g (d + 1) (⟨"jdk/internal/util/ArraysSupport", "hugeLength", "(II)I"⟩, Cond.code ⟨"jdk/internal/util/ArraysSupport", "hugeLength", "(II)I"⟩ prog_73_method_28_code 3 (Option.some FieldType.int)) args σ Q Y := by
  obtain ⟨x1, x2, rfl, hw⟩ := hw
  refine zof hG (by decide +kernel) [false, false] ⟨rfl, rfl, trivial⟩ (Nat.le_of_ble_eq_true rfl) (ls := [some (.int x1), some (.int x2), none]) rfl ?_
  intro X hX hR hTb hd1 hd2 hl hg hnm
  subst hl
  subst hg
  have hd : zDep X d := ⟨hd1, hd2⟩
  refine z_iload_n hX dJ13_hugeLength_0 rfl (i := 0) rfl ?_
  refine z_iload_n hX dJ13_hugeLength_1 rfl (i := 1) rfl ?_
  refine z_iadd hX dJ13_hugeLength_2 ?_
  refine z_istore_n hX dJ13_hugeLength_3 rfl (i := 2) (Nat.le_of_ble_eq_true rfl) rfl (ls2 := [some (.int x1), some (.int x2), some (.int (x1 + x2))]) rfl ?_
  refine z_iload_n hX dJ13_hugeLength_4 rfl (i := 2) rfl ?_
  refine z_if_ge hX dJ13_hugeLength_5 (tgt := 49) rfl (fun c1 => ?_) (fun c1 => ?_)
  · have hw := hw.1 c1
    refine z_iload_n hX dJ13_hugeLength_49 rfl (i := 2) rfl ?_
    refine z_ldc hX dJ13_hugeLength_50 q784 ?_
    refine z_icmp_gt hX dJ13_hugeLength_52 (tgt := 58) rfl (fun c2 => ?_) (fun c2 => ?_)
    · have hw := hw.1 c2
      refine z_iload_n hX dJ13_hugeLength_58 rfl (i := 2) rfl ?_
      exact z_ireturn hX hR dJ13_hugeLength_59 rfl hw
    · have hw := hw.2 c2
      refine z_ldc hX dJ13_hugeLength_55 q784 ?_
      exact z_ireturn hX hR dJ13_hugeLength_57 rfl hw
  · have hw := hw.2 c1
    exact hw.elim
abbrev cJ13_mismatch : ByteArray := prog_73_method_13_code
def yJ13_mismatch : MethodName := ⟨RJ13, "mismatch", "([B[BI)I"⟩
def dkwJ13_mismatch_3 : List UInt8 := [172]
abbrev dktJ13_mismatch_3 : List UInt8 := dkwJ13_mismatch_3 ++ []
def dkwJ13_mismatch_2 : List UInt8 := [62, 29, 28, 162, 0, 20, 42, 29, 51, 43, 29, 51, 159, 0, 5, 29, 172, 132, 3, 1, 167, 255, 237, 2]
abbrev dktJ13_mismatch_2 : List UInt8 := dkwJ13_mismatch_2 ++ dktJ13_mismatch_3
def dkwJ13_mismatch_1 : List UInt8 := [43, 178, 0, 126, 133, 28, 178, 0, 129, 184, 0, 122, 62, 29, 155, 0, 5, 29, 172, 28, 29, 2, 130, 100]
abbrev dktJ13_mismatch_1 : List UInt8 := dkwJ13_mismatch_1 ++ dktJ13_mismatch_2
def dkwJ13_mismatch_0 : List UInt8 := [3, 62, 28, 16, 7, 164, 0, 44, 42, 3, 51, 43, 3, 51, 159, 0, 5, 3, 172, 42, 178, 0, 126, 133]
abbrev dktJ13_mismatch_0 : List UInt8 := dkwJ13_mismatch_0 ++ dktJ13_mismatch_1
theorem dksJ13_mismatch_0 : cJ13_mismatch.data.toList.drop 0 = dktJ13_mismatch_0 := by decide +kernel
theorem dksJ13_mismatch_1 : cJ13_mismatch.data.toList.drop 24 = dktJ13_mismatch_1 := dk_seg dksJ13_mismatch_0 24 rfl rfl
theorem dksJ13_mismatch_2 : cJ13_mismatch.data.toList.drop 48 = dktJ13_mismatch_2 := dk_seg dksJ13_mismatch_1 24 rfl rfl
theorem dksJ13_mismatch_3 : cJ13_mismatch.data.toList.drop 72 = dktJ13_mismatch_3 := dk_seg dksJ13_mismatch_2 24 rfl rfl
theorem dJ13_mismatch_0 : decode cJ13_mismatch 0 = .ok (.iconst 0, 1) := dk_3 (dk_at dksJ13_mismatch_0 0 rfl rfl)
theorem dJ13_mismatch_1 : decode cJ13_mismatch 1 = .ok (.istore_n 3, 1) := dk_62 (dk_at dksJ13_mismatch_0 1 rfl rfl)
theorem dJ13_mismatch_2 : decode cJ13_mismatch 2 = .ok (.iload_n 2, 1) := dk_28 (dk_at dksJ13_mismatch_0 2 rfl rfl)
theorem dJ13_mismatch_3 : decode cJ13_mismatch 3 = .ok (.bipush 7, 2) := dk_16 7 (dk_at dksJ13_mismatch_0 3 rfl rfl)
theorem dJ13_mismatch_5 : decode cJ13_mismatch 5 = .ok (.if_icmp .le 44, 3) := dk_164 0 44 (dk_at dksJ13_mismatch_0 5 rfl rfl)
theorem dJ13_mismatch_8 : decode cJ13_mismatch 8 = .ok (.aload_n 0, 1) := dk_42 (dk_at dksJ13_mismatch_0 8 rfl rfl)
theorem dJ13_mismatch_9 : decode cJ13_mismatch 9 = .ok (.iconst 0, 1) := dk_3 (dk_at dksJ13_mismatch_0 9 rfl rfl)
theorem dJ13_mismatch_10 : decode cJ13_mismatch 10 = .ok (.baload, 1) := dk_51 (dk_at dksJ13_mismatch_0 10 rfl rfl)
theorem dJ13_mismatch_11 : decode cJ13_mismatch 11 = .ok (.aload_n 1, 1) := dk_43 (dk_at dksJ13_mismatch_0 11 rfl rfl)
theorem dJ13_mismatch_12 : decode cJ13_mismatch 12 = .ok (.iconst 0, 1) := dk_3 (dk_at dksJ13_mismatch_0 12 rfl rfl)
theorem dJ13_mismatch_13 : decode cJ13_mismatch 13 = .ok (.baload, 1) := dk_51 (dk_at dksJ13_mismatch_0 13 rfl rfl)
theorem dJ13_mismatch_14 : decode cJ13_mismatch 14 = .ok (.if_icmp .eq 5, 3) := dk_159 0 5 (dk_at dksJ13_mismatch_0 14 rfl rfl)
theorem dJ13_mismatch_17 : decode cJ13_mismatch 17 = .ok (.iconst 0, 1) := dk_3 (dk_at dksJ13_mismatch_0 17 rfl rfl)
theorem dJ13_mismatch_18 : decode cJ13_mismatch 18 = .ok (.ireturn, 1) := dk_172 (dk_at dksJ13_mismatch_0 18 rfl rfl)
theorem dJ13_mismatch_19 : decode cJ13_mismatch 19 = .ok (.aload_n 0, 1) := dk_42 (dk_at dksJ13_mismatch_0 19 rfl rfl)
theorem dJ13_mismatch_20 : decode cJ13_mismatch 20 = .ok (.getstatic 126, 3) := dk_178 0 126 (dk_at dksJ13_mismatch_0 20 rfl rfl)
theorem dJ13_mismatch_23 : decode cJ13_mismatch 23 = .ok (.i2l, 1) := dk_133 (dk_at dksJ13_mismatch_0 23 rfl rfl)
theorem dJ13_mismatch_24 : decode cJ13_mismatch 24 = .ok (.aload_n 1, 1) := dk_43 (dk_at dksJ13_mismatch_1 0 rfl rfl)
theorem dJ13_mismatch_25 : decode cJ13_mismatch 25 = .ok (.getstatic 126, 3) := dk_178 0 126 (dk_at dksJ13_mismatch_1 1 rfl rfl)
theorem dJ13_mismatch_28 : decode cJ13_mismatch 28 = .ok (.i2l, 1) := dk_133 (dk_at dksJ13_mismatch_1 4 rfl rfl)
theorem dJ13_mismatch_29 : decode cJ13_mismatch 29 = .ok (.iload_n 2, 1) := dk_28 (dk_at dksJ13_mismatch_1 5 rfl rfl)
theorem dJ13_mismatch_30 : decode cJ13_mismatch 30 = .ok (.getstatic 129, 3) := dk_178 0 129 (dk_at dksJ13_mismatch_1 6 rfl rfl)
theorem dJ13_mismatch_33 : decode cJ13_mismatch 33 = .ok (.invokestatic 122, 3) := dk_184 0 122 (dk_at dksJ13_mismatch_1 9 rfl rfl)
theorem dJ13_mismatch_36 : decode cJ13_mismatch 36 = .ok (.istore_n 3, 1) := dk_62 (dk_at dksJ13_mismatch_1 12 rfl rfl)
theorem dJ13_mismatch_37 : decode cJ13_mismatch 37 = .ok (.iload_n 3, 1) := dk_29 (dk_at dksJ13_mismatch_1 13 rfl rfl)
theorem dJ13_mismatch_38 : decode cJ13_mismatch 38 = .ok (.ifCond .lt 5, 3) := dk_155 0 5 (dk_at dksJ13_mismatch_1 14 rfl rfl)
theorem dJ13_mismatch_41 : decode cJ13_mismatch 41 = .ok (.iload_n 3, 1) := dk_29 (dk_at dksJ13_mismatch_1 17 rfl rfl)
theorem dJ13_mismatch_42 : decode cJ13_mismatch 42 = .ok (.ireturn, 1) := dk_172 (dk_at dksJ13_mismatch_1 18 rfl rfl)
theorem dJ13_mismatch_43 : decode cJ13_mismatch 43 = .ok (.iload_n 2, 1) := dk_28 (dk_at dksJ13_mismatch_1 19 rfl rfl)
theorem dJ13_mismatch_44 : decode cJ13_mismatch 44 = .ok (.iload_n 3, 1) := dk_29 (dk_at dksJ13_mismatch_1 20 rfl rfl)
theorem dJ13_mismatch_45 : decode cJ13_mismatch 45 = .ok (.iconst (-1), 1) := dk_2 (dk_at dksJ13_mismatch_1 21 rfl rfl)
theorem dJ13_mismatch_46 : decode cJ13_mismatch 46 = .ok (.ixor, 1) := dk_130 (dk_at dksJ13_mismatch_1 22 rfl rfl)
theorem dJ13_mismatch_47 : decode cJ13_mismatch 47 = .ok (.isub, 1) := dk_100 (dk_at dksJ13_mismatch_1 23 rfl rfl)
theorem dJ13_mismatch_48 : decode cJ13_mismatch 48 = .ok (.istore_n 3, 1) := dk_62 (dk_at dksJ13_mismatch_2 0 rfl rfl)
theorem dJ13_mismatch_49 : decode cJ13_mismatch 49 = .ok (.iload_n 3, 1) := dk_29 (dk_at dksJ13_mismatch_2 1 rfl rfl)
theorem dJ13_mismatch_50 : decode cJ13_mismatch 50 = .ok (.iload_n 2, 1) := dk_28 (dk_at dksJ13_mismatch_2 2 rfl rfl)
theorem dJ13_mismatch_51 : decode cJ13_mismatch 51 = .ok (.if_icmp .ge 20, 3) := dk_162 0 20 (dk_at dksJ13_mismatch_2 3 rfl rfl)
theorem dJ13_mismatch_54 : decode cJ13_mismatch 54 = .ok (.aload_n 0, 1) := dk_42 (dk_at dksJ13_mismatch_2 6 rfl rfl)
theorem dJ13_mismatch_55 : decode cJ13_mismatch 55 = .ok (.iload_n 3, 1) := dk_29 (dk_at dksJ13_mismatch_2 7 rfl rfl)
theorem dJ13_mismatch_56 : decode cJ13_mismatch 56 = .ok (.baload, 1) := dk_51 (dk_at dksJ13_mismatch_2 8 rfl rfl)
theorem dJ13_mismatch_57 : decode cJ13_mismatch 57 = .ok (.aload_n 1, 1) := dk_43 (dk_at dksJ13_mismatch_2 9 rfl rfl)
theorem dJ13_mismatch_58 : decode cJ13_mismatch 58 = .ok (.iload_n 3, 1) := dk_29 (dk_at dksJ13_mismatch_2 10 rfl rfl)
theorem dJ13_mismatch_59 : decode cJ13_mismatch 59 = .ok (.baload, 1) := dk_51 (dk_at dksJ13_mismatch_2 11 rfl rfl)
theorem dJ13_mismatch_60 : decode cJ13_mismatch 60 = .ok (.if_icmp .eq 5, 3) := dk_159 0 5 (dk_at dksJ13_mismatch_2 12 rfl rfl)
theorem dJ13_mismatch_63 : decode cJ13_mismatch 63 = .ok (.iload_n 3, 1) := dk_29 (dk_at dksJ13_mismatch_2 15 rfl rfl)
theorem dJ13_mismatch_64 : decode cJ13_mismatch 64 = .ok (.ireturn, 1) := dk_172 (dk_at dksJ13_mismatch_2 16 rfl rfl)
theorem dJ13_mismatch_65 : decode cJ13_mismatch 65 = .ok (.iinc 3 1, 3) := dk_132 3 1 (dk_at dksJ13_mismatch_2 17 rfl rfl)
theorem dJ13_mismatch_68 : decode cJ13_mismatch 68 = .ok (.goto (-19), 3) := dk_167 255 237 (dk_at dksJ13_mismatch_2 20 rfl rfl)
theorem dJ13_mismatch_71 : decode cJ13_mismatch 71 = .ok (.iconst (-1), 1) := dk_2 (dk_at dksJ13_mismatch_2 23 rfl rfl)
theorem dJ13_mismatch_72 : decode cJ13_mismatch 72 = .ok (.ireturn, 1) := dk_172 (dk_at dksJ13_mismatch_3 0 rfl rfl)
/-- jdk/internal/util/ArraysSupport.mismatch([B[BI)I -/
def zb397 (G : zPg) (C : zO) (args : List Value) (Q : zQ) (Y : zY) (σ : zS) : Prop := ∃ (x1 : Option Nat) (x2 : Option Nat) (x3 : Int32), args = [va_rf x1, va_rf x2, .int x3] ∧ (((x3 ≤ (7 : Int32)) → ∃ n, zIt (fun _ _ => False) (fun rec4 (p2 : Int32) (s3 : zS) => ((x3 ≤ p2) → Q (some (.int (-1 : Int32))) s3) ∧ ((¬ x3 ≤ p2) → zaI s3 2 x1 p2 (fun v12 => zaI s3 2 x2 p2 (fun v20 => ((v12 = v20) → (∀ v23 : Int32, v23 = p2 + (1 : Int32) → rec4 v23 s3)) ∧ ((¬ v12 = v20) → Q (some (.int p2)) s3))))) n (0 : Int32) σ) ∧ ((¬ x3 ≤ (7 : Int32)) → zaI σ 2 x1 (0 : Int32) (fun v32 => zaI σ 2 x2 (0 : Int32) (fun v40 => ((v32 = v40) → False) ∧ ((¬ v32 = v40) → Q (some (.int (0 : Int32))) σ)))))
set_option maxHeartbeats 4000000 in
theorem wk397 {l : Launch} {g : zG} {d : Nat} {C : zO} (hG : zGk g) (hC : zSound l g d C) {args : List Value} {Q : zQ} {Y : zY} {σ : zS} (hw : zb397 (zpg g) C args Q Y σ) : zMet l g (d + 1) (⟨"jdk/internal/util/ArraysSupport", "mismatch", "([B[BI)I"⟩, Cond.code ⟨"jdk/internal/util/ArraysSupport", "mismatch", "([B[BI)I"⟩ prog_73_method_13_code 4 (Option.some FieldType.int)) args σ Q Y := by
  obtain ⟨x1, x2, x3, rfl, hw⟩ := hw
  refine zof hG (by decide +kernel) [false, false, false] ⟨(zc_rf _), (zc_rf _), rfl, trivial⟩ (Nat.le_of_ble_eq_true rfl) (ls := [some (va_rf x1), some (va_rf x2), some (.int x3), none]) rfl ?_
  intro X hX hR hTb hd1 hd2 hl hg hnm
  subst hl
  subst hg
  have hd : zDep X d := ⟨hd1, hd2⟩
  refine z_iconst hX (v := (0 : Int32)) dJ13_mismatch_0 (by decide) ?_
  refine z_istore_n hX dJ13_mismatch_1 rfl (i := 3) (Nat.le_of_ble_eq_true rfl) rfl (ls2 := [some (va_rf x1), some (va_rf x2), some (.int x3), some (.int (0 : Int32))]) rfl ?_
  refine z_iload_n hX dJ13_mismatch_2 rfl (i := 2) rfl ?_
  refine z_bipush hX (v := (7 : Int32)) dJ13_mismatch_3 (by decide) ?_
  refine z_icmp_le hX dJ13_mismatch_5 (tgt := 49) rfl (fun c1 => ?_) (fun c1 => ?_)
  · have hw := hw.1 c1
    obtain ⟨n25, hw⟩ := hw
    refine zIt_w (P := fun (j : Int32 → zS → Prop) => ∀ (p2 : Int32) (s3 : zS), j p2 s3 → zW X s3 49 [some (va_rf x1), some (va_rf x2), some (.int x3), some (.int p2)] []) (fun _ _ h => h.elim) (fun rec4 hrec4 p2 s3 hw => ?_) n25 _ _ hw
    refine z_iload_n hX dJ13_mismatch_49 rfl (i := 3) rfl ?_
    refine z_iload_n hX dJ13_mismatch_50 rfl (i := 2) rfl ?_
    refine z_icmp_ge hX dJ13_mismatch_51 (tgt := 71) rfl (fun c5 => ?_) (fun c5 => ?_)
    · have hw := hw.1 c5
      refine z_iconst hX (v := (-1 : Int32)) dJ13_mismatch_71 (by decide) ?_
      exact z_ireturn hX hR dJ13_mismatch_72 rfl hw
    · have hw := hw.2 c5
      refine z_aload_n hX dJ13_mismatch_54 rfl (i := 0) rfl ?_
      refine z_iload_n hX dJ13_mismatch_55 rfl (i := 3) rfl ?_
      obtain ⟨a6, n7, f8, r9, m10, i11, hw⟩ := hw
      refine z_bald hX dJ13_mismatch_56 r9 m10 i11 ?_
      revert hw
      generalize f8 (Int32.toNatClampNeg p2) = v12
      intro hw
      refine z_aload_n hX dJ13_mismatch_57 rfl (i := 1) rfl ?_
      refine z_iload_n hX dJ13_mismatch_58 rfl (i := 3) rfl ?_
      obtain ⟨a14, n15, f16, r17, m18, i19, hw⟩ := hw
      refine z_bald hX dJ13_mismatch_59 r17 m18 i19 ?_
      revert hw
      generalize f16 (Int32.toNatClampNeg p2) = v20
      intro hw
      refine z_icmp_eq hX dJ13_mismatch_60 (tgt := 65) rfl (fun c22 => ?_) (fun c22 => ?_)
      · have hw := hw.1 c22
        obtain ⟨v23, e24⟩ : ∃ y : Int32, y = p2 + (1 : Int32) := ⟨_, rfl⟩
        refine z_iinc hX dJ13_mismatch_65 (i := 3) (v := v23) rfl (by rw [e24]; rfl) (Nat.le_of_ble_eq_true rfl) rfl (ls2 := [some (va_rf x1), some (va_rf x2), some (.int x3), some (.int v23)]) rfl ?_
        have hw := hw v23 e24
        refine z_goto hX dJ13_mismatch_68 (tgt := 49) rfl ?_
        exact hrec4 _ _ hw
      · have hw := hw.2 c22
        refine z_iload_n hX dJ13_mismatch_63 rfl (i := 3) rfl ?_
        exact z_ireturn hX hR dJ13_mismatch_64 rfl hw
  · have hw := hw.2 c1
    refine z_aload_n hX dJ13_mismatch_8 rfl (i := 0) rfl ?_
    refine z_iconst hX (v := (0 : Int32)) dJ13_mismatch_9 (by decide) ?_
    obtain ⟨a26, n27, f28, r29, m30, i31, hw⟩ := hw
    refine z_bald hX dJ13_mismatch_10 r29 m30 i31 ?_
    revert hw
    generalize f28 (Int32.toNatClampNeg (0 : Int32)) = v32
    intro hw
    refine z_aload_n hX dJ13_mismatch_11 rfl (i := 1) rfl ?_
    refine z_iconst hX (v := (0 : Int32)) dJ13_mismatch_12 (by decide) ?_
    obtain ⟨a34, n35, f36, r37, m38, i39, hw⟩ := hw
    refine z_bald hX dJ13_mismatch_13 r37 m38 i39 ?_
    revert hw
    generalize f36 (Int32.toNatClampNeg (0 : Int32)) = v40
    intro hw
    refine z_icmp_eq hX dJ13_mismatch_14 (tgt := 19) rfl (fun c42 => ?_) (fun c42 => ?_)
    · have hw := hw.1 c42
      refine z_aload_n hX dJ13_mismatch_19 rfl (i := 0) rfl ?_
      exact hw.elim
    · have hw := hw.2 c42
      refine z_iconst hX (v := (0 : Int32)) dJ13_mismatch_17 (by decide) ?_
      exact z_ireturn hX hR dJ13_mismatch_18 rfl hw
abbrev cJ13_vectorizedMismatch : ByteArray := prog_73_method_3_code
def yJ13_vectorizedMismatch : MethodName := ⟨RJ13, "vectorizedMismatch", "(Ljava/lang/Object;JLjava/lang/Object;JII)I"⟩
def dkwJ13_vectorizedMismatch_11 : List UInt8 := [54, 10, 21, 10, 2, 130, 172, 21, 10, 2, 130, 172]
abbrev dktJ13_vectorizedMismatch_11 : List UInt8 := dkwJ13_vectorizedMismatch_11 ++ []
def dkwJ13_vectorizedMismatch_10 : List UInt8 := [178, 0, 46, 21, 7, 96, 122, 54, 17, 21, 9, 21, 8, 120, 21, 17, 96, 172, 21, 10, 21, 11, 100]
abbrev dktJ13_vectorizedMismatch_10 : List UInt8 := dkwJ13_vectorizedMismatch_10 ++ dktJ13_vectorizedMismatch_11
def dkwJ13_vectorizedMismatch_9 : List UInt8 := [153, 0, 18, 21, 16, 184, 0, 58, 178, 0, 46, 21, 7, 96, 122, 167, 0, 15, 21, 16, 184, 0, 11]
abbrev dktJ13_vectorizedMismatch_9 : List UInt8 := dkwJ13_vectorizedMismatch_9 ++ dktJ13_vectorizedMismatch_10
def dkwJ13_vectorizedMismatch_8 : List UInt8 := [182, 0, 54, 54, 15, 21, 14, 21, 15, 159, 0, 54, 21, 14, 21, 15, 130, 54, 16, 178, 0, 36]
abbrev dktJ13_vectorizedMismatch_8 : List UInt8 := dkwJ13_vectorizedMismatch_8 ++ dktJ13_vectorizedMismatch_9
def dkwJ13_vectorizedMismatch_7 : List UInt8 := [55, 12, 178, 0, 26, 42, 31, 22, 12, 97, 182, 0, 54, 54, 14, 178, 0, 26, 45, 22, 4, 22, 12, 97]
abbrev dktJ13_vectorizedMismatch_7 : List UInt8 := dkwJ13_vectorizedMismatch_7 ++ dktJ13_vectorizedMismatch_8
def dkwJ13_vectorizedMismatch_6 : List UInt8 := [4, 178, 0, 51, 21, 7, 100, 120, 54, 11, 21, 10, 21, 11, 161, 0, 104, 21, 9, 133, 178, 0, 20, 121]
abbrev dktJ13_vectorizedMismatch_6 : List UInt8 := dkwJ13_vectorizedMismatch_6 ++ dktJ13_vectorizedMismatch_7
def dkwJ13_vectorizedMismatch_5 : List UInt8 := [132, 9, 1, 167, 255, 148, 21, 6, 21, 9, 21, 8, 120, 100, 54, 10, 21, 7, 178, 0, 51, 162, 0, 126]
abbrev dktJ13_vectorizedMismatch_5 : List UInt8 := dkwJ13_vectorizedMismatch_5 ++ dktJ13_vectorizedMismatch_6
def dkwJ13_vectorizedMismatch_4 : List UInt8 := [22, 16, 184, 0, 49, 178, 0, 46, 21, 7, 96, 122, 54, 18, 21, 9, 21, 8, 120, 21, 18, 96, 172]
abbrev dktJ13_vectorizedMismatch_4 : List UInt8 := dkwJ13_vectorizedMismatch_4 ++ dktJ13_vectorizedMismatch_5
def dkwJ13_vectorizedMismatch_3 : List UInt8 := [55, 16, 178, 0, 36, 153, 0, 18, 22, 16, 184, 0, 40, 178, 0, 46, 21, 7, 96, 122, 167, 0, 15]
abbrev dktJ13_vectorizedMismatch_3 : List UInt8 := dkwJ13_vectorizedMismatch_3 ++ dktJ13_vectorizedMismatch_4
def dkwJ13_vectorizedMismatch_2 : List UInt8 := [22, 4, 22, 10, 97, 182, 0, 30, 55, 14, 22, 12, 22, 14, 148, 153, 0, 54, 22, 12, 22, 14, 131]
abbrev dktJ13_vectorizedMismatch_2 : List UInt8 := dkwJ13_vectorizedMismatch_2 ++ dktJ13_vectorizedMismatch_3
def dkwJ13_vectorizedMismatch_1 : List UInt8 := [178, 0, 20, 121, 55, 10, 178, 0, 26, 42, 31, 22, 10, 97, 182, 0, 30, 55, 12, 178, 0, 26, 45]
abbrev dktJ13_vectorizedMismatch_1 : List UInt8 := dkwJ13_vectorizedMismatch_1 ++ dktJ13_vectorizedMismatch_2
def dkwJ13_vectorizedMismatch_0 : List UInt8 := [178, 0, 20, 21, 7, 100, 54, 8, 3, 54, 9, 21, 9, 21, 6, 21, 8, 122, 162, 0, 104, 21, 9, 133]
abbrev dktJ13_vectorizedMismatch_0 : List UInt8 := dkwJ13_vectorizedMismatch_0 ++ dktJ13_vectorizedMismatch_1
theorem dksJ13_vectorizedMismatch_0 : cJ13_vectorizedMismatch.data.toList.drop 0 = dktJ13_vectorizedMismatch_0 := by decide +kernel
theorem dksJ13_vectorizedMismatch_1 : cJ13_vectorizedMismatch.data.toList.drop 24 = dktJ13_vectorizedMismatch_1 := dk_seg dksJ13_vectorizedMismatch_0 24 rfl rfl
theorem dksJ13_vectorizedMismatch_2 : cJ13_vectorizedMismatch.data.toList.drop 47 = dktJ13_vectorizedMismatch_2 := dk_seg dksJ13_vectorizedMismatch_1 23 rfl rfl
theorem dksJ13_vectorizedMismatch_3 : cJ13_vectorizedMismatch.data.toList.drop 70 = dktJ13_vectorizedMismatch_3 := dk_seg dksJ13_vectorizedMismatch_2 23 rfl rfl
theorem dksJ13_vectorizedMismatch_4 : cJ13_vectorizedMismatch.data.toList.drop 93 = dktJ13_vectorizedMismatch_4 := dk_seg dksJ13_vectorizedMismatch_3 23 rfl rfl
theorem dksJ13_vectorizedMismatch_5 : cJ13_vectorizedMismatch.data.toList.drop 116 = dktJ13_vectorizedMismatch_5 := dk_seg dksJ13_vectorizedMismatch_4 23 rfl rfl
theorem dksJ13_vectorizedMismatch_6 : cJ13_vectorizedMismatch.data.toList.drop 140 = dktJ13_vectorizedMismatch_6 := dk_seg dksJ13_vectorizedMismatch_5 24 rfl rfl
theorem dksJ13_vectorizedMismatch_7 : cJ13_vectorizedMismatch.data.toList.drop 164 = dktJ13_vectorizedMismatch_7 := dk_seg dksJ13_vectorizedMismatch_6 24 rfl rfl
theorem dksJ13_vectorizedMismatch_8 : cJ13_vectorizedMismatch.data.toList.drop 188 = dktJ13_vectorizedMismatch_8 := dk_seg dksJ13_vectorizedMismatch_7 24 rfl rfl
theorem dksJ13_vectorizedMismatch_9 : cJ13_vectorizedMismatch.data.toList.drop 210 = dktJ13_vectorizedMismatch_9 := dk_seg dksJ13_vectorizedMismatch_8 22 rfl rfl
theorem dksJ13_vectorizedMismatch_10 : cJ13_vectorizedMismatch.data.toList.drop 233 = dktJ13_vectorizedMismatch_10 := dk_seg dksJ13_vectorizedMismatch_9 23 rfl rfl
theorem dksJ13_vectorizedMismatch_11 : cJ13_vectorizedMismatch.data.toList.drop 256 = dktJ13_vectorizedMismatch_11 := dk_seg dksJ13_vectorizedMismatch_10 23 rfl rfl
theorem dJ13_vectorizedMismatch_0 : decode cJ13_vectorizedMismatch 0 = .ok (.getstatic 20, 3) := dk_178 0 20 (dk_at dksJ13_vectorizedMismatch_0 0 rfl rfl)
theorem dJ13_vectorizedMismatch_3 : decode cJ13_vectorizedMismatch 3 = .ok (.iload 7, 2) := dk_21 7 (dk_at dksJ13_vectorizedMismatch_0 3 rfl rfl)
theorem dJ13_vectorizedMismatch_5 : decode cJ13_vectorizedMismatch 5 = .ok (.isub, 1) := dk_100 (dk_at dksJ13_vectorizedMismatch_0 5 rfl rfl)
theorem dJ13_vectorizedMismatch_6 : decode cJ13_vectorizedMismatch 6 = .ok (.istore 8, 2) := dk_54 8 (dk_at dksJ13_vectorizedMismatch_0 6 rfl rfl)
theorem dJ13_vectorizedMismatch_8 : decode cJ13_vectorizedMismatch 8 = .ok (.iconst 0, 1) := dk_3 (dk_at dksJ13_vectorizedMismatch_0 8 rfl rfl)
theorem dJ13_vectorizedMismatch_9 : decode cJ13_vectorizedMismatch 9 = .ok (.istore 9, 2) := dk_54 9 (dk_at dksJ13_vectorizedMismatch_0 9 rfl rfl)
theorem dJ13_vectorizedMismatch_11 : decode cJ13_vectorizedMismatch 11 = .ok (.iload 9, 2) := dk_21 9 (dk_at dksJ13_vectorizedMismatch_0 11 rfl rfl)
theorem dJ13_vectorizedMismatch_13 : decode cJ13_vectorizedMismatch 13 = .ok (.iload 6, 2) := dk_21 6 (dk_at dksJ13_vectorizedMismatch_0 13 rfl rfl)
theorem dJ13_vectorizedMismatch_15 : decode cJ13_vectorizedMismatch 15 = .ok (.iload 8, 2) := dk_21 8 (dk_at dksJ13_vectorizedMismatch_0 15 rfl rfl)
theorem dJ13_vectorizedMismatch_17 : decode cJ13_vectorizedMismatch 17 = .ok (.ishr, 1) := dk_122 (dk_at dksJ13_vectorizedMismatch_0 17 rfl rfl)
theorem dJ13_vectorizedMismatch_18 : decode cJ13_vectorizedMismatch 18 = .ok (.if_icmp .ge 104, 3) := dk_162 0 104 (dk_at dksJ13_vectorizedMismatch_0 18 rfl rfl)
theorem dJ13_vectorizedMismatch_21 : decode cJ13_vectorizedMismatch 21 = .ok (.iload 9, 2) := dk_21 9 (dk_at dksJ13_vectorizedMismatch_0 21 rfl rfl)
theorem dJ13_vectorizedMismatch_23 : decode cJ13_vectorizedMismatch 23 = .ok (.i2l, 1) := dk_133 (dk_at dksJ13_vectorizedMismatch_0 23 rfl rfl)
theorem dJ13_vectorizedMismatch_24 : decode cJ13_vectorizedMismatch 24 = .ok (.getstatic 20, 3) := dk_178 0 20 (dk_at dksJ13_vectorizedMismatch_1 0 rfl rfl)
theorem dJ13_vectorizedMismatch_27 : decode cJ13_vectorizedMismatch 27 = .ok (.lshl, 1) := dk_121 (dk_at dksJ13_vectorizedMismatch_1 3 rfl rfl)
theorem dJ13_vectorizedMismatch_28 : decode cJ13_vectorizedMismatch 28 = .ok (.lstore 10, 2) := dk_55 10 (dk_at dksJ13_vectorizedMismatch_1 4 rfl rfl)
theorem dJ13_vectorizedMismatch_30 : decode cJ13_vectorizedMismatch 30 = .ok (.getstatic 26, 3) := dk_178 0 26 (dk_at dksJ13_vectorizedMismatch_1 6 rfl rfl)
theorem dJ13_vectorizedMismatch_33 : decode cJ13_vectorizedMismatch 33 = .ok (.aload_n 0, 1) := dk_42 (dk_at dksJ13_vectorizedMismatch_1 9 rfl rfl)
theorem dJ13_vectorizedMismatch_34 : decode cJ13_vectorizedMismatch 34 = .ok (.lload_n 1, 1) := dk_31 (dk_at dksJ13_vectorizedMismatch_1 10 rfl rfl)
theorem dJ13_vectorizedMismatch_35 : decode cJ13_vectorizedMismatch 35 = .ok (.lload 10, 2) := dk_22 10 (dk_at dksJ13_vectorizedMismatch_1 11 rfl rfl)
theorem dJ13_vectorizedMismatch_37 : decode cJ13_vectorizedMismatch 37 = .ok (.ladd, 1) := dk_97 (dk_at dksJ13_vectorizedMismatch_1 13 rfl rfl)
theorem dJ13_vectorizedMismatch_38 : decode cJ13_vectorizedMismatch 38 = .ok (.invokevirtual 30, 3) := dk_182 0 30 (dk_at dksJ13_vectorizedMismatch_1 14 rfl rfl)
theorem dJ13_vectorizedMismatch_41 : decode cJ13_vectorizedMismatch 41 = .ok (.lstore 12, 2) := dk_55 12 (dk_at dksJ13_vectorizedMismatch_1 17 rfl rfl)
theorem dJ13_vectorizedMismatch_43 : decode cJ13_vectorizedMismatch 43 = .ok (.getstatic 26, 3) := dk_178 0 26 (dk_at dksJ13_vectorizedMismatch_1 19 rfl rfl)
theorem dJ13_vectorizedMismatch_46 : decode cJ13_vectorizedMismatch 46 = .ok (.aload_n 3, 1) := dk_45 (dk_at dksJ13_vectorizedMismatch_1 22 rfl rfl)
theorem dJ13_vectorizedMismatch_47 : decode cJ13_vectorizedMismatch 47 = .ok (.lload 4, 2) := dk_22 4 (dk_at dksJ13_vectorizedMismatch_2 0 rfl rfl)
theorem dJ13_vectorizedMismatch_49 : decode cJ13_vectorizedMismatch 49 = .ok (.lload 10, 2) := dk_22 10 (dk_at dksJ13_vectorizedMismatch_2 2 rfl rfl)
theorem dJ13_vectorizedMismatch_51 : decode cJ13_vectorizedMismatch 51 = .ok (.ladd, 1) := dk_97 (dk_at dksJ13_vectorizedMismatch_2 4 rfl rfl)
theorem dJ13_vectorizedMismatch_52 : decode cJ13_vectorizedMismatch 52 = .ok (.invokevirtual 30, 3) := dk_182 0 30 (dk_at dksJ13_vectorizedMismatch_2 5 rfl rfl)
theorem dJ13_vectorizedMismatch_55 : decode cJ13_vectorizedMismatch 55 = .ok (.lstore 14, 2) := dk_55 14 (dk_at dksJ13_vectorizedMismatch_2 8 rfl rfl)
theorem dJ13_vectorizedMismatch_57 : decode cJ13_vectorizedMismatch 57 = .ok (.lload 12, 2) := dk_22 12 (dk_at dksJ13_vectorizedMismatch_2 10 rfl rfl)
theorem dJ13_vectorizedMismatch_59 : decode cJ13_vectorizedMismatch 59 = .ok (.lload 14, 2) := dk_22 14 (dk_at dksJ13_vectorizedMismatch_2 12 rfl rfl)
theorem dJ13_vectorizedMismatch_61 : decode cJ13_vectorizedMismatch 61 = .ok (.lcmp, 1) := dk_148 (dk_at dksJ13_vectorizedMismatch_2 14 rfl rfl)
theorem dJ13_vectorizedMismatch_62 : decode cJ13_vectorizedMismatch 62 = .ok (.ifCond .eq 54, 3) := dk_153 0 54 (dk_at dksJ13_vectorizedMismatch_2 15 rfl rfl)
theorem dJ13_vectorizedMismatch_65 : decode cJ13_vectorizedMismatch 65 = .ok (.lload 12, 2) := dk_22 12 (dk_at dksJ13_vectorizedMismatch_2 18 rfl rfl)
theorem dJ13_vectorizedMismatch_67 : decode cJ13_vectorizedMismatch 67 = .ok (.lload 14, 2) := dk_22 14 (dk_at dksJ13_vectorizedMismatch_2 20 rfl rfl)
theorem dJ13_vectorizedMismatch_69 : decode cJ13_vectorizedMismatch 69 = .ok (.lxor, 1) := dk_131 (dk_at dksJ13_vectorizedMismatch_2 22 rfl rfl)
theorem dJ13_vectorizedMismatch_70 : decode cJ13_vectorizedMismatch 70 = .ok (.lstore 16, 2) := dk_55 16 (dk_at dksJ13_vectorizedMismatch_3 0 rfl rfl)
theorem dJ13_vectorizedMismatch_72 : decode cJ13_vectorizedMismatch 72 = .ok (.getstatic 36, 3) := dk_178 0 36 (dk_at dksJ13_vectorizedMismatch_3 2 rfl rfl)
theorem dJ13_vectorizedMismatch_75 : decode cJ13_vectorizedMismatch 75 = .ok (.ifCond .eq 18, 3) := dk_153 0 18 (dk_at dksJ13_vectorizedMismatch_3 5 rfl rfl)
theorem dJ13_vectorizedMismatch_78 : decode cJ13_vectorizedMismatch 78 = .ok (.lload 16, 2) := dk_22 16 (dk_at dksJ13_vectorizedMismatch_3 8 rfl rfl)
theorem dJ13_vectorizedMismatch_80 : decode cJ13_vectorizedMismatch 80 = .ok (.invokestatic 40, 3) := dk_184 0 40 (dk_at dksJ13_vectorizedMismatch_3 10 rfl rfl)
theorem dJ13_vectorizedMismatch_83 : decode cJ13_vectorizedMismatch 83 = .ok (.getstatic 46, 3) := dk_178 0 46 (dk_at dksJ13_vectorizedMismatch_3 13 rfl rfl)
theorem dJ13_vectorizedMismatch_86 : decode cJ13_vectorizedMismatch 86 = .ok (.iload 7, 2) := dk_21 7 (dk_at dksJ13_vectorizedMismatch_3 16 rfl rfl)
theorem dJ13_vectorizedMismatch_88 : decode cJ13_vectorizedMismatch 88 = .ok (.iadd, 1) := dk_96 (dk_at dksJ13_vectorizedMismatch_3 18 rfl rfl)
theorem dJ13_vectorizedMismatch_89 : decode cJ13_vectorizedMismatch 89 = .ok (.ishr, 1) := dk_122 (dk_at dksJ13_vectorizedMismatch_3 19 rfl rfl)
theorem dJ13_vectorizedMismatch_90 : decode cJ13_vectorizedMismatch 90 = .ok (.goto 15, 3) := dk_167 0 15 (dk_at dksJ13_vectorizedMismatch_3 20 rfl rfl)
theorem dJ13_vectorizedMismatch_93 : decode cJ13_vectorizedMismatch 93 = .ok (.lload 16, 2) := dk_22 16 (dk_at dksJ13_vectorizedMismatch_4 0 rfl rfl)
theorem dJ13_vectorizedMismatch_95 : decode cJ13_vectorizedMismatch 95 = .ok (.invokestatic 49, 3) := dk_184 0 49 (dk_at dksJ13_vectorizedMismatch_4 2 rfl rfl)
theorem dJ13_vectorizedMismatch_98 : decode cJ13_vectorizedMismatch 98 = .ok (.getstatic 46, 3) := dk_178 0 46 (dk_at dksJ13_vectorizedMismatch_4 5 rfl rfl)
theorem dJ13_vectorizedMismatch_101 : decode cJ13_vectorizedMismatch 101 = .ok (.iload 7, 2) := dk_21 7 (dk_at dksJ13_vectorizedMismatch_4 8 rfl rfl)
theorem dJ13_vectorizedMismatch_103 : decode cJ13_vectorizedMismatch 103 = .ok (.iadd, 1) := dk_96 (dk_at dksJ13_vectorizedMismatch_4 10 rfl rfl)
theorem dJ13_vectorizedMismatch_104 : decode cJ13_vectorizedMismatch 104 = .ok (.ishr, 1) := dk_122 (dk_at dksJ13_vectorizedMismatch_4 11 rfl rfl)
theorem dJ13_vectorizedMismatch_105 : decode cJ13_vectorizedMismatch 105 = .ok (.istore 18, 2) := dk_54 18 (dk_at dksJ13_vectorizedMismatch_4 12 rfl rfl)
theorem dJ13_vectorizedMismatch_107 : decode cJ13_vectorizedMismatch 107 = .ok (.iload 9, 2) := dk_21 9 (dk_at dksJ13_vectorizedMismatch_4 14 rfl rfl)
theorem dJ13_vectorizedMismatch_109 : decode cJ13_vectorizedMismatch 109 = .ok (.iload 8, 2) := dk_21 8 (dk_at dksJ13_vectorizedMismatch_4 16 rfl rfl)
theorem dJ13_vectorizedMismatch_111 : decode cJ13_vectorizedMismatch 111 = .ok (.ishl, 1) := dk_120 (dk_at dksJ13_vectorizedMismatch_4 18 rfl rfl)
theorem dJ13_vectorizedMismatch_112 : decode cJ13_vectorizedMismatch 112 = .ok (.iload 18, 2) := dk_21 18 (dk_at dksJ13_vectorizedMismatch_4 19 rfl rfl)
theorem dJ13_vectorizedMismatch_114 : decode cJ13_vectorizedMismatch 114 = .ok (.iadd, 1) := dk_96 (dk_at dksJ13_vectorizedMismatch_4 21 rfl rfl)
theorem dJ13_vectorizedMismatch_115 : decode cJ13_vectorizedMismatch 115 = .ok (.ireturn, 1) := dk_172 (dk_at dksJ13_vectorizedMismatch_4 22 rfl rfl)
theorem dJ13_vectorizedMismatch_116 : decode cJ13_vectorizedMismatch 116 = .ok (.iinc 9 1, 3) := dk_132 9 1 (dk_at dksJ13_vectorizedMismatch_5 0 rfl rfl)
theorem dJ13_vectorizedMismatch_119 : decode cJ13_vectorizedMismatch 119 = .ok (.goto (-108), 3) := dk_167 255 148 (dk_at dksJ13_vectorizedMismatch_5 3 rfl rfl)
theorem dJ13_vectorizedMismatch_122 : decode cJ13_vectorizedMismatch 122 = .ok (.iload 6, 2) := dk_21 6 (dk_at dksJ13_vectorizedMismatch_5 6 rfl rfl)
theorem dJ13_vectorizedMismatch_124 : decode cJ13_vectorizedMismatch 124 = .ok (.iload 9, 2) := dk_21 9 (dk_at dksJ13_vectorizedMismatch_5 8 rfl rfl)
theorem dJ13_vectorizedMismatch_126 : decode cJ13_vectorizedMismatch 126 = .ok (.iload 8, 2) := dk_21 8 (dk_at dksJ13_vectorizedMismatch_5 10 rfl rfl)
theorem dJ13_vectorizedMismatch_128 : decode cJ13_vectorizedMismatch 128 = .ok (.ishl, 1) := dk_120 (dk_at dksJ13_vectorizedMismatch_5 12 rfl rfl)
theorem dJ13_vectorizedMismatch_129 : decode cJ13_vectorizedMismatch 129 = .ok (.isub, 1) := dk_100 (dk_at dksJ13_vectorizedMismatch_5 13 rfl rfl)
theorem dJ13_vectorizedMismatch_130 : decode cJ13_vectorizedMismatch 130 = .ok (.istore 10, 2) := dk_54 10 (dk_at dksJ13_vectorizedMismatch_5 14 rfl rfl)
theorem dJ13_vectorizedMismatch_132 : decode cJ13_vectorizedMismatch 132 = .ok (.iload 7, 2) := dk_21 7 (dk_at dksJ13_vectorizedMismatch_5 16 rfl rfl)
theorem dJ13_vectorizedMismatch_134 : decode cJ13_vectorizedMismatch 134 = .ok (.getstatic 51, 3) := dk_178 0 51 (dk_at dksJ13_vectorizedMismatch_5 18 rfl rfl)
theorem dJ13_vectorizedMismatch_137 : decode cJ13_vectorizedMismatch 137 = .ok (.if_icmp .ge 126, 3) := dk_162 0 126 (dk_at dksJ13_vectorizedMismatch_5 21 rfl rfl)
theorem dJ13_vectorizedMismatch_140 : decode cJ13_vectorizedMismatch 140 = .ok (.iconst 1, 1) := dk_4 (dk_at dksJ13_vectorizedMismatch_6 0 rfl rfl)
theorem dJ13_vectorizedMismatch_141 : decode cJ13_vectorizedMismatch 141 = .ok (.getstatic 51, 3) := dk_178 0 51 (dk_at dksJ13_vectorizedMismatch_6 1 rfl rfl)
theorem dJ13_vectorizedMismatch_144 : decode cJ13_vectorizedMismatch 144 = .ok (.iload 7, 2) := dk_21 7 (dk_at dksJ13_vectorizedMismatch_6 4 rfl rfl)
theorem dJ13_vectorizedMismatch_146 : decode cJ13_vectorizedMismatch 146 = .ok (.isub, 1) := dk_100 (dk_at dksJ13_vectorizedMismatch_6 6 rfl rfl)
theorem dJ13_vectorizedMismatch_147 : decode cJ13_vectorizedMismatch 147 = .ok (.ishl, 1) := dk_120 (dk_at dksJ13_vectorizedMismatch_6 7 rfl rfl)
theorem dJ13_vectorizedMismatch_148 : decode cJ13_vectorizedMismatch 148 = .ok (.istore 11, 2) := dk_54 11 (dk_at dksJ13_vectorizedMismatch_6 8 rfl rfl)
theorem dJ13_vectorizedMismatch_150 : decode cJ13_vectorizedMismatch 150 = .ok (.iload 10, 2) := dk_21 10 (dk_at dksJ13_vectorizedMismatch_6 10 rfl rfl)
theorem dJ13_vectorizedMismatch_152 : decode cJ13_vectorizedMismatch 152 = .ok (.iload 11, 2) := dk_21 11 (dk_at dksJ13_vectorizedMismatch_6 12 rfl rfl)
theorem dJ13_vectorizedMismatch_154 : decode cJ13_vectorizedMismatch 154 = .ok (.if_icmp .lt 104, 3) := dk_161 0 104 (dk_at dksJ13_vectorizedMismatch_6 14 rfl rfl)
theorem dJ13_vectorizedMismatch_157 : decode cJ13_vectorizedMismatch 157 = .ok (.iload 9, 2) := dk_21 9 (dk_at dksJ13_vectorizedMismatch_6 17 rfl rfl)
theorem dJ13_vectorizedMismatch_159 : decode cJ13_vectorizedMismatch 159 = .ok (.i2l, 1) := dk_133 (dk_at dksJ13_vectorizedMismatch_6 19 rfl rfl)
theorem dJ13_vectorizedMismatch_160 : decode cJ13_vectorizedMismatch 160 = .ok (.getstatic 20, 3) := dk_178 0 20 (dk_at dksJ13_vectorizedMismatch_6 20 rfl rfl)
theorem dJ13_vectorizedMismatch_163 : decode cJ13_vectorizedMismatch 163 = .ok (.lshl, 1) := dk_121 (dk_at dksJ13_vectorizedMismatch_6 23 rfl rfl)
theorem dJ13_vectorizedMismatch_164 : decode cJ13_vectorizedMismatch 164 = .ok (.lstore 12, 2) := dk_55 12 (dk_at dksJ13_vectorizedMismatch_7 0 rfl rfl)
theorem dJ13_vectorizedMismatch_166 : decode cJ13_vectorizedMismatch 166 = .ok (.getstatic 26, 3) := dk_178 0 26 (dk_at dksJ13_vectorizedMismatch_7 2 rfl rfl)
theorem dJ13_vectorizedMismatch_169 : decode cJ13_vectorizedMismatch 169 = .ok (.aload_n 0, 1) := dk_42 (dk_at dksJ13_vectorizedMismatch_7 5 rfl rfl)
theorem dJ13_vectorizedMismatch_170 : decode cJ13_vectorizedMismatch 170 = .ok (.lload_n 1, 1) := dk_31 (dk_at dksJ13_vectorizedMismatch_7 6 rfl rfl)
theorem dJ13_vectorizedMismatch_171 : decode cJ13_vectorizedMismatch 171 = .ok (.lload 12, 2) := dk_22 12 (dk_at dksJ13_vectorizedMismatch_7 7 rfl rfl)
theorem dJ13_vectorizedMismatch_173 : decode cJ13_vectorizedMismatch 173 = .ok (.ladd, 1) := dk_97 (dk_at dksJ13_vectorizedMismatch_7 9 rfl rfl)
theorem dJ13_vectorizedMismatch_174 : decode cJ13_vectorizedMismatch 174 = .ok (.invokevirtual 54, 3) := dk_182 0 54 (dk_at dksJ13_vectorizedMismatch_7 10 rfl rfl)
theorem dJ13_vectorizedMismatch_177 : decode cJ13_vectorizedMismatch 177 = .ok (.istore 14, 2) := dk_54 14 (dk_at dksJ13_vectorizedMismatch_7 13 rfl rfl)
theorem dJ13_vectorizedMismatch_179 : decode cJ13_vectorizedMismatch 179 = .ok (.getstatic 26, 3) := dk_178 0 26 (dk_at dksJ13_vectorizedMismatch_7 15 rfl rfl)
theorem dJ13_vectorizedMismatch_182 : decode cJ13_vectorizedMismatch 182 = .ok (.aload_n 3, 1) := dk_45 (dk_at dksJ13_vectorizedMismatch_7 18 rfl rfl)
theorem dJ13_vectorizedMismatch_183 : decode cJ13_vectorizedMismatch 183 = .ok (.lload 4, 2) := dk_22 4 (dk_at dksJ13_vectorizedMismatch_7 19 rfl rfl)
theorem dJ13_vectorizedMismatch_185 : decode cJ13_vectorizedMismatch 185 = .ok (.lload 12, 2) := dk_22 12 (dk_at dksJ13_vectorizedMismatch_7 21 rfl rfl)
theorem dJ13_vectorizedMismatch_187 : decode cJ13_vectorizedMismatch 187 = .ok (.ladd, 1) := dk_97 (dk_at dksJ13_vectorizedMismatch_7 23 rfl rfl)
theorem dJ13_vectorizedMismatch_188 : decode cJ13_vectorizedMismatch 188 = .ok (.invokevirtual 54, 3) := dk_182 0 54 (dk_at dksJ13_vectorizedMismatch_8 0 rfl rfl)
theorem dJ13_vectorizedMismatch_191 : decode cJ13_vectorizedMismatch 191 = .ok (.istore 15, 2) := dk_54 15 (dk_at dksJ13_vectorizedMismatch_8 3 rfl rfl)
theorem dJ13_vectorizedMismatch_193 : decode cJ13_vectorizedMismatch 193 = .ok (.iload 14, 2) := dk_21 14 (dk_at dksJ13_vectorizedMismatch_8 5 rfl rfl)
theorem dJ13_vectorizedMismatch_195 : decode cJ13_vectorizedMismatch 195 = .ok (.iload 15, 2) := dk_21 15 (dk_at dksJ13_vectorizedMismatch_8 7 rfl rfl)
theorem dJ13_vectorizedMismatch_197 : decode cJ13_vectorizedMismatch 197 = .ok (.if_icmp .eq 54, 3) := dk_159 0 54 (dk_at dksJ13_vectorizedMismatch_8 9 rfl rfl)
theorem dJ13_vectorizedMismatch_200 : decode cJ13_vectorizedMismatch 200 = .ok (.iload 14, 2) := dk_21 14 (dk_at dksJ13_vectorizedMismatch_8 12 rfl rfl)
theorem dJ13_vectorizedMismatch_202 : decode cJ13_vectorizedMismatch 202 = .ok (.iload 15, 2) := dk_21 15 (dk_at dksJ13_vectorizedMismatch_8 14 rfl rfl)
theorem dJ13_vectorizedMismatch_204 : decode cJ13_vectorizedMismatch 204 = .ok (.ixor, 1) := dk_130 (dk_at dksJ13_vectorizedMismatch_8 16 rfl rfl)
theorem dJ13_vectorizedMismatch_205 : decode cJ13_vectorizedMismatch 205 = .ok (.istore 16, 2) := dk_54 16 (dk_at dksJ13_vectorizedMismatch_8 17 rfl rfl)
theorem dJ13_vectorizedMismatch_207 : decode cJ13_vectorizedMismatch 207 = .ok (.getstatic 36, 3) := dk_178 0 36 (dk_at dksJ13_vectorizedMismatch_8 19 rfl rfl)
theorem dJ13_vectorizedMismatch_210 : decode cJ13_vectorizedMismatch 210 = .ok (.ifCond .eq 18, 3) := dk_153 0 18 (dk_at dksJ13_vectorizedMismatch_9 0 rfl rfl)
theorem dJ13_vectorizedMismatch_213 : decode cJ13_vectorizedMismatch 213 = .ok (.iload 16, 2) := dk_21 16 (dk_at dksJ13_vectorizedMismatch_9 3 rfl rfl)
theorem dJ13_vectorizedMismatch_215 : decode cJ13_vectorizedMismatch 215 = .ok (.invokestatic 58, 3) := dk_184 0 58 (dk_at dksJ13_vectorizedMismatch_9 5 rfl rfl)
theorem dJ13_vectorizedMismatch_218 : decode cJ13_vectorizedMismatch 218 = .ok (.getstatic 46, 3) := dk_178 0 46 (dk_at dksJ13_vectorizedMismatch_9 8 rfl rfl)
theorem dJ13_vectorizedMismatch_221 : decode cJ13_vectorizedMismatch 221 = .ok (.iload 7, 2) := dk_21 7 (dk_at dksJ13_vectorizedMismatch_9 11 rfl rfl)
theorem dJ13_vectorizedMismatch_223 : decode cJ13_vectorizedMismatch 223 = .ok (.iadd, 1) := dk_96 (dk_at dksJ13_vectorizedMismatch_9 13 rfl rfl)
theorem dJ13_vectorizedMismatch_224 : decode cJ13_vectorizedMismatch 224 = .ok (.ishr, 1) := dk_122 (dk_at dksJ13_vectorizedMismatch_9 14 rfl rfl)
theorem dJ13_vectorizedMismatch_225 : decode cJ13_vectorizedMismatch 225 = .ok (.goto 15, 3) := dk_167 0 15 (dk_at dksJ13_vectorizedMismatch_9 15 rfl rfl)
theorem dJ13_vectorizedMismatch_228 : decode cJ13_vectorizedMismatch 228 = .ok (.iload 16, 2) := dk_21 16 (dk_at dksJ13_vectorizedMismatch_9 18 rfl rfl)
theorem dJ13_vectorizedMismatch_230 : decode cJ13_vectorizedMismatch 230 = .ok (.invokestatic 11, 3) := dk_184 0 11 (dk_at dksJ13_vectorizedMismatch_9 20 rfl rfl)
theorem dJ13_vectorizedMismatch_233 : decode cJ13_vectorizedMismatch 233 = .ok (.getstatic 46, 3) := dk_178 0 46 (dk_at dksJ13_vectorizedMismatch_10 0 rfl rfl)
theorem dJ13_vectorizedMismatch_236 : decode cJ13_vectorizedMismatch 236 = .ok (.iload 7, 2) := dk_21 7 (dk_at dksJ13_vectorizedMismatch_10 3 rfl rfl)
theorem dJ13_vectorizedMismatch_238 : decode cJ13_vectorizedMismatch 238 = .ok (.iadd, 1) := dk_96 (dk_at dksJ13_vectorizedMismatch_10 5 rfl rfl)
theorem dJ13_vectorizedMismatch_239 : decode cJ13_vectorizedMismatch 239 = .ok (.ishr, 1) := dk_122 (dk_at dksJ13_vectorizedMismatch_10 6 rfl rfl)
theorem dJ13_vectorizedMismatch_240 : decode cJ13_vectorizedMismatch 240 = .ok (.istore 17, 2) := dk_54 17 (dk_at dksJ13_vectorizedMismatch_10 7 rfl rfl)
theorem dJ13_vectorizedMismatch_242 : decode cJ13_vectorizedMismatch 242 = .ok (.iload 9, 2) := dk_21 9 (dk_at dksJ13_vectorizedMismatch_10 9 rfl rfl)
theorem dJ13_vectorizedMismatch_244 : decode cJ13_vectorizedMismatch 244 = .ok (.iload 8, 2) := dk_21 8 (dk_at dksJ13_vectorizedMismatch_10 11 rfl rfl)
theorem dJ13_vectorizedMismatch_246 : decode cJ13_vectorizedMismatch 246 = .ok (.ishl, 1) := dk_120 (dk_at dksJ13_vectorizedMismatch_10 13 rfl rfl)
theorem dJ13_vectorizedMismatch_247 : decode cJ13_vectorizedMismatch 247 = .ok (.iload 17, 2) := dk_21 17 (dk_at dksJ13_vectorizedMismatch_10 14 rfl rfl)
theorem dJ13_vectorizedMismatch_249 : decode cJ13_vectorizedMismatch 249 = .ok (.iadd, 1) := dk_96 (dk_at dksJ13_vectorizedMismatch_10 16 rfl rfl)
theorem dJ13_vectorizedMismatch_250 : decode cJ13_vectorizedMismatch 250 = .ok (.ireturn, 1) := dk_172 (dk_at dksJ13_vectorizedMismatch_10 17 rfl rfl)
theorem dJ13_vectorizedMismatch_251 : decode cJ13_vectorizedMismatch 251 = .ok (.iload 10, 2) := dk_21 10 (dk_at dksJ13_vectorizedMismatch_10 18 rfl rfl)
theorem dJ13_vectorizedMismatch_253 : decode cJ13_vectorizedMismatch 253 = .ok (.iload 11, 2) := dk_21 11 (dk_at dksJ13_vectorizedMismatch_10 20 rfl rfl)
theorem dJ13_vectorizedMismatch_255 : decode cJ13_vectorizedMismatch 255 = .ok (.isub, 1) := dk_100 (dk_at dksJ13_vectorizedMismatch_10 22 rfl rfl)
theorem dJ13_vectorizedMismatch_256 : decode cJ13_vectorizedMismatch 256 = .ok (.istore 10, 2) := dk_54 10 (dk_at dksJ13_vectorizedMismatch_11 0 rfl rfl)
theorem dJ13_vectorizedMismatch_258 : decode cJ13_vectorizedMismatch 258 = .ok (.iload 10, 2) := dk_21 10 (dk_at dksJ13_vectorizedMismatch_11 2 rfl rfl)
theorem dJ13_vectorizedMismatch_260 : decode cJ13_vectorizedMismatch 260 = .ok (.iconst (-1), 1) := dk_2 (dk_at dksJ13_vectorizedMismatch_11 4 rfl rfl)
theorem dJ13_vectorizedMismatch_261 : decode cJ13_vectorizedMismatch 261 = .ok (.ixor, 1) := dk_130 (dk_at dksJ13_vectorizedMismatch_11 5 rfl rfl)
theorem dJ13_vectorizedMismatch_262 : decode cJ13_vectorizedMismatch 262 = .ok (.ireturn, 1) := dk_172 (dk_at dksJ13_vectorizedMismatch_11 6 rfl rfl)
theorem dJ13_vectorizedMismatch_263 : decode cJ13_vectorizedMismatch 263 = .ok (.iload 10, 2) := dk_21 10 (dk_at dksJ13_vectorizedMismatch_11 7 rfl rfl)
theorem dJ13_vectorizedMismatch_265 : decode cJ13_vectorizedMismatch 265 = .ok (.iconst (-1), 1) := dk_2 (dk_at dksJ13_vectorizedMismatch_11 9 rfl rfl)
theorem dJ13_vectorizedMismatch_266 : decode cJ13_vectorizedMismatch 266 = .ok (.ixor, 1) := dk_130 (dk_at dksJ13_vectorizedMismatch_11 10 rfl rfl)
theorem dJ13_vectorizedMismatch_267 : decode cJ13_vectorizedMismatch 267 = .ok (.ireturn, 1) := dk_172 (dk_at dksJ13_vectorizedMismatch_11 11 rfl rfl)
/-- jdk/internal/util/ArraysSupport.vectorizedMismatch(Ljava/lang/Object;JLjava/lang/Object;JII)I -/
def zb398 (G : zPg) (C : zO) (args : List Value) (Q : zQ) (Y : zY) (σ : zS) : Prop := ∃ (x1 : Option Nat) (x2 : Int64) (x3 : Option Nat) (x4 : Int64) (x5 : Int32) (x6 : Int32), args = [va_rf x1, .long x2, va_rf x3, .long x4, .int x5, .int x6] ∧ (False)
set_option maxHeartbeats 4000000 in
theorem wk398 {l : Launch} {g : zG} {d : Nat} {C : zO} (hG : zGk g) (hC : zSound l g d C) {args : List Value} {Q : zQ} {Y : zY} {σ : zS} (hw : zb398 (zpg g) C args Q Y σ) : zMet l g (d + 1) (⟨"jdk/internal/util/ArraysSupport", "vectorizedMismatch", "(Ljava/lang/Object;JLjava/lang/Object;JII)I"⟩, Cond.code ⟨"jdk/internal/util/ArraysSupport", "vectorizedMismatch", "(Ljava/lang/Object;JLjava/lang/Object;JII)I"⟩ prog_73_method_3_code 19 (Option.some FieldType.int)) args σ Q Y := by
  obtain ⟨x1, x2, x3, x4, x5, x6, rfl, hw⟩ := hw
  refine zof hG (by decide +kernel) [false, true, false, true, false, false] ⟨(zc_rf _), rfl, (zc_rf _), rfl, rfl, rfl, trivial⟩ (Nat.le_of_ble_eq_true rfl) (ls := [some (va_rf x1), some (.long x2), none, some (va_rf x3), some (.long x4), none, some (.int x5), some (.int x6), none, none, none, none, none, none, none, none, none, none, none]) rfl ?_
  intro X hX hR hTb hd1 hd2 hl hg hnm
  subst hl
  subst hg
  have hd : zDep X d := ⟨hd1, hd2⟩
  exact hw.elim
abbrev cJ13_vectorizedHashCode : ByteArray := prog_73_method_4_code
def yJ13_vectorizedHashCode : MethodName := ⟨RJ13, "vectorizedHashCode", "(Ljava/lang/Object;IIII)I"⟩
def dkwJ13_vectorizedHashCode_6 : List UInt8 := [183, 0, 91, 18, 92, 182, 0, 94, 21, 4, 182, 0, 98, 182, 0, 101, 183, 0, 105, 191, 172]
abbrev dktJ13_vectorizedHashCode_6 : List UInt8 := dkwJ13_vectorizedHashCode_6 ++ []
def dkwJ13_vectorizedHashCode_5 : List UInt8 := [167, 0, 44, 29, 42, 192, 0, 82, 27, 28, 184, 0, 84, 167, 0, 31, 187, 0, 87, 89, 187, 0, 89, 89]
abbrev dktJ13_vectorizedHashCode_5 : List UInt8 := dkwJ13_vectorizedHashCode_5 ++ dktJ13_vectorizedHashCode_6
def dkwJ13_vectorizedHashCode_4 : List UInt8 := [29, 42, 192, 0, 60, 27, 28, 184, 0, 75, 167, 0, 57, 29, 42, 192, 0, 77, 27, 28, 184, 0, 79]
abbrev dktJ13_vectorizedHashCode_4 : List UInt8 := dkwJ13_vectorizedHashCode_4 ++ dktJ13_vectorizedHashCode_5
def dkwJ13_vectorizedHashCode_3 : List UInt8 := [192, 0, 60, 27, 28, 184, 0, 66, 167, 0, 83, 29, 42, 192, 0, 69, 27, 28, 184, 0, 71, 167, 0, 70]
abbrev dktJ13_vectorizedHashCode_3 : List UInt8 := dkwJ13_vectorizedHashCode_3 ++ dktJ13_vectorizedHashCode_4
def dkwJ13_vectorizedHashCode_2 : List UInt8 := [29, 42, 192, 0, 60, 27, 28, 184, 0, 62, 167, 0, 103, 42, 193, 0, 60, 153, 0, 16, 29, 42]
abbrev dktJ13_vectorizedHashCode_2 : List UInt8 := dkwJ13_vectorizedHashCode_2 ++ dktJ13_vectorizedHashCode_3
def dkwJ13_vectorizedHashCode_1 : List UInt8 := [170, 0, 0, 0, 0, 127, 0, 0, 0, 4, 0, 0, 0, 10, 0, 0, 0, 42, 0, 0, 0, 55, 0, 0, 0, 127, 0, 0, 0, 127, 0, 0, 0, 88, 0, 0, 0, 101, 0, 0, 0, 114]
abbrev dktJ13_vectorizedHashCode_1 : List UInt8 := dkwJ13_vectorizedHashCode_1 ++ dktJ13_vectorizedHashCode_2
def dkwJ13_vectorizedHashCode_0 : List UInt8 := [21, 4]
abbrev dktJ13_vectorizedHashCode_0 : List UInt8 := dkwJ13_vectorizedHashCode_0 ++ dktJ13_vectorizedHashCode_1
theorem dksJ13_vectorizedHashCode_0 : cJ13_vectorizedHashCode.data.toList.drop 0 = dktJ13_vectorizedHashCode_0 := by decide +kernel
theorem dksJ13_vectorizedHashCode_1 : cJ13_vectorizedHashCode.data.toList.drop 2 = dktJ13_vectorizedHashCode_1 := dk_seg dksJ13_vectorizedHashCode_0 2 rfl rfl
theorem dksJ13_vectorizedHashCode_2 : cJ13_vectorizedHashCode.data.toList.drop 44 = dktJ13_vectorizedHashCode_2 := dk_seg dksJ13_vectorizedHashCode_1 42 rfl rfl
theorem dksJ13_vectorizedHashCode_3 : cJ13_vectorizedHashCode.data.toList.drop 66 = dktJ13_vectorizedHashCode_3 := dk_seg dksJ13_vectorizedHashCode_2 22 rfl rfl
theorem dksJ13_vectorizedHashCode_4 : cJ13_vectorizedHashCode.data.toList.drop 90 = dktJ13_vectorizedHashCode_4 := dk_seg dksJ13_vectorizedHashCode_3 24 rfl rfl
theorem dksJ13_vectorizedHashCode_5 : cJ13_vectorizedHashCode.data.toList.drop 113 = dktJ13_vectorizedHashCode_5 := dk_seg dksJ13_vectorizedHashCode_4 23 rfl rfl
theorem dksJ13_vectorizedHashCode_6 : cJ13_vectorizedHashCode.data.toList.drop 137 = dktJ13_vectorizedHashCode_6 := dk_seg dksJ13_vectorizedHashCode_5 24 rfl rfl
theorem dJ13_vectorizedHashCode_0 : decode cJ13_vectorizedHashCode 0 = .ok (.iload 4, 2) := dk_21 4 (dk_at dksJ13_vectorizedHashCode_0 0 rfl rfl)
theorem dJ13_vectorizedHashCode_2 : decode cJ13_vectorizedHashCode 2 = .ok (.tableswitch 127 4 10 #[42, 55, 127, 127, 88, 101, 114], 42) := by decide +kernel
theorem dJ13_vectorizedHashCode_44 : decode cJ13_vectorizedHashCode 44 = .ok (.iload_n 3, 1) := dk_29 (dk_at dksJ13_vectorizedHashCode_2 0 rfl rfl)
theorem dJ13_vectorizedHashCode_45 : decode cJ13_vectorizedHashCode 45 = .ok (.aload_n 0, 1) := dk_42 (dk_at dksJ13_vectorizedHashCode_2 1 rfl rfl)
theorem dJ13_vectorizedHashCode_46 : decode cJ13_vectorizedHashCode 46 = .ok (.checkcast 60, 3) := dk_192 0 60 (dk_at dksJ13_vectorizedHashCode_2 2 rfl rfl)
theorem dJ13_vectorizedHashCode_49 : decode cJ13_vectorizedHashCode 49 = .ok (.iload_n 1, 1) := dk_27 (dk_at dksJ13_vectorizedHashCode_2 5 rfl rfl)
theorem dJ13_vectorizedHashCode_50 : decode cJ13_vectorizedHashCode 50 = .ok (.iload_n 2, 1) := dk_28 (dk_at dksJ13_vectorizedHashCode_2 6 rfl rfl)
theorem dJ13_vectorizedHashCode_51 : decode cJ13_vectorizedHashCode 51 = .ok (.invokestatic 62, 3) := dk_184 0 62 (dk_at dksJ13_vectorizedHashCode_2 7 rfl rfl)
theorem dJ13_vectorizedHashCode_54 : decode cJ13_vectorizedHashCode 54 = .ok (.goto 103, 3) := dk_167 0 103 (dk_at dksJ13_vectorizedHashCode_2 10 rfl rfl)
theorem dJ13_vectorizedHashCode_57 : decode cJ13_vectorizedHashCode 57 = .ok (.aload_n 0, 1) := dk_42 (dk_at dksJ13_vectorizedHashCode_2 13 rfl rfl)
theorem dJ13_vectorizedHashCode_58 : decode cJ13_vectorizedHashCode 58 = .ok (.instanceof 60, 3) := dk_193 0 60 (dk_at dksJ13_vectorizedHashCode_2 14 rfl rfl)
theorem dJ13_vectorizedHashCode_61 : decode cJ13_vectorizedHashCode 61 = .ok (.ifCond .eq 16, 3) := dk_153 0 16 (dk_at dksJ13_vectorizedHashCode_2 17 rfl rfl)
theorem dJ13_vectorizedHashCode_64 : decode cJ13_vectorizedHashCode 64 = .ok (.iload_n 3, 1) := dk_29 (dk_at dksJ13_vectorizedHashCode_2 20 rfl rfl)
theorem dJ13_vectorizedHashCode_65 : decode cJ13_vectorizedHashCode 65 = .ok (.aload_n 0, 1) := dk_42 (dk_at dksJ13_vectorizedHashCode_2 21 rfl rfl)
theorem dJ13_vectorizedHashCode_66 : decode cJ13_vectorizedHashCode 66 = .ok (.checkcast 60, 3) := dk_192 0 60 (dk_at dksJ13_vectorizedHashCode_3 0 rfl rfl)
theorem dJ13_vectorizedHashCode_69 : decode cJ13_vectorizedHashCode 69 = .ok (.iload_n 1, 1) := dk_27 (dk_at dksJ13_vectorizedHashCode_3 3 rfl rfl)
theorem dJ13_vectorizedHashCode_70 : decode cJ13_vectorizedHashCode 70 = .ok (.iload_n 2, 1) := dk_28 (dk_at dksJ13_vectorizedHashCode_3 4 rfl rfl)
theorem dJ13_vectorizedHashCode_71 : decode cJ13_vectorizedHashCode 71 = .ok (.invokestatic 66, 3) := dk_184 0 66 (dk_at dksJ13_vectorizedHashCode_3 5 rfl rfl)
theorem dJ13_vectorizedHashCode_74 : decode cJ13_vectorizedHashCode 74 = .ok (.goto 83, 3) := dk_167 0 83 (dk_at dksJ13_vectorizedHashCode_3 8 rfl rfl)
theorem dJ13_vectorizedHashCode_77 : decode cJ13_vectorizedHashCode 77 = .ok (.iload_n 3, 1) := dk_29 (dk_at dksJ13_vectorizedHashCode_3 11 rfl rfl)
theorem dJ13_vectorizedHashCode_78 : decode cJ13_vectorizedHashCode 78 = .ok (.aload_n 0, 1) := dk_42 (dk_at dksJ13_vectorizedHashCode_3 12 rfl rfl)
theorem dJ13_vectorizedHashCode_79 : decode cJ13_vectorizedHashCode 79 = .ok (.checkcast 69, 3) := dk_192 0 69 (dk_at dksJ13_vectorizedHashCode_3 13 rfl rfl)
theorem dJ13_vectorizedHashCode_82 : decode cJ13_vectorizedHashCode 82 = .ok (.iload_n 1, 1) := dk_27 (dk_at dksJ13_vectorizedHashCode_3 16 rfl rfl)
theorem dJ13_vectorizedHashCode_83 : decode cJ13_vectorizedHashCode 83 = .ok (.iload_n 2, 1) := dk_28 (dk_at dksJ13_vectorizedHashCode_3 17 rfl rfl)
theorem dJ13_vectorizedHashCode_84 : decode cJ13_vectorizedHashCode 84 = .ok (.invokestatic 71, 3) := dk_184 0 71 (dk_at dksJ13_vectorizedHashCode_3 18 rfl rfl)
theorem dJ13_vectorizedHashCode_87 : decode cJ13_vectorizedHashCode 87 = .ok (.goto 70, 3) := dk_167 0 70 (dk_at dksJ13_vectorizedHashCode_3 21 rfl rfl)
theorem dJ13_vectorizedHashCode_90 : decode cJ13_vectorizedHashCode 90 = .ok (.iload_n 3, 1) := dk_29 (dk_at dksJ13_vectorizedHashCode_4 0 rfl rfl)
theorem dJ13_vectorizedHashCode_91 : decode cJ13_vectorizedHashCode 91 = .ok (.aload_n 0, 1) := dk_42 (dk_at dksJ13_vectorizedHashCode_4 1 rfl rfl)
theorem dJ13_vectorizedHashCode_92 : decode cJ13_vectorizedHashCode 92 = .ok (.checkcast 60, 3) := dk_192 0 60 (dk_at dksJ13_vectorizedHashCode_4 2 rfl rfl)
theorem dJ13_vectorizedHashCode_95 : decode cJ13_vectorizedHashCode 95 = .ok (.iload_n 1, 1) := dk_27 (dk_at dksJ13_vectorizedHashCode_4 5 rfl rfl)
theorem dJ13_vectorizedHashCode_96 : decode cJ13_vectorizedHashCode 96 = .ok (.iload_n 2, 1) := dk_28 (dk_at dksJ13_vectorizedHashCode_4 6 rfl rfl)
theorem dJ13_vectorizedHashCode_97 : decode cJ13_vectorizedHashCode 97 = .ok (.invokestatic 75, 3) := dk_184 0 75 (dk_at dksJ13_vectorizedHashCode_4 7 rfl rfl)
theorem dJ13_vectorizedHashCode_100 : decode cJ13_vectorizedHashCode 100 = .ok (.goto 57, 3) := dk_167 0 57 (dk_at dksJ13_vectorizedHashCode_4 10 rfl rfl)
theorem dJ13_vectorizedHashCode_103 : decode cJ13_vectorizedHashCode 103 = .ok (.iload_n 3, 1) := dk_29 (dk_at dksJ13_vectorizedHashCode_4 13 rfl rfl)
theorem dJ13_vectorizedHashCode_104 : decode cJ13_vectorizedHashCode 104 = .ok (.aload_n 0, 1) := dk_42 (dk_at dksJ13_vectorizedHashCode_4 14 rfl rfl)
theorem dJ13_vectorizedHashCode_105 : decode cJ13_vectorizedHashCode 105 = .ok (.checkcast 77, 3) := dk_192 0 77 (dk_at dksJ13_vectorizedHashCode_4 15 rfl rfl)
theorem dJ13_vectorizedHashCode_108 : decode cJ13_vectorizedHashCode 108 = .ok (.iload_n 1, 1) := dk_27 (dk_at dksJ13_vectorizedHashCode_4 18 rfl rfl)
theorem dJ13_vectorizedHashCode_109 : decode cJ13_vectorizedHashCode 109 = .ok (.iload_n 2, 1) := dk_28 (dk_at dksJ13_vectorizedHashCode_4 19 rfl rfl)
theorem dJ13_vectorizedHashCode_110 : decode cJ13_vectorizedHashCode 110 = .ok (.invokestatic 79, 3) := dk_184 0 79 (dk_at dksJ13_vectorizedHashCode_4 20 rfl rfl)
theorem dJ13_vectorizedHashCode_113 : decode cJ13_vectorizedHashCode 113 = .ok (.goto 44, 3) := dk_167 0 44 (dk_at dksJ13_vectorizedHashCode_5 0 rfl rfl)
theorem dJ13_vectorizedHashCode_116 : decode cJ13_vectorizedHashCode 116 = .ok (.iload_n 3, 1) := dk_29 (dk_at dksJ13_vectorizedHashCode_5 3 rfl rfl)
theorem dJ13_vectorizedHashCode_117 : decode cJ13_vectorizedHashCode 117 = .ok (.aload_n 0, 1) := dk_42 (dk_at dksJ13_vectorizedHashCode_5 4 rfl rfl)
theorem dJ13_vectorizedHashCode_118 : decode cJ13_vectorizedHashCode 118 = .ok (.checkcast 82, 3) := dk_192 0 82 (dk_at dksJ13_vectorizedHashCode_5 5 rfl rfl)
theorem dJ13_vectorizedHashCode_121 : decode cJ13_vectorizedHashCode 121 = .ok (.iload_n 1, 1) := dk_27 (dk_at dksJ13_vectorizedHashCode_5 8 rfl rfl)
theorem dJ13_vectorizedHashCode_122 : decode cJ13_vectorizedHashCode 122 = .ok (.iload_n 2, 1) := dk_28 (dk_at dksJ13_vectorizedHashCode_5 9 rfl rfl)
theorem dJ13_vectorizedHashCode_123 : decode cJ13_vectorizedHashCode 123 = .ok (.invokestatic 84, 3) := dk_184 0 84 (dk_at dksJ13_vectorizedHashCode_5 10 rfl rfl)
theorem dJ13_vectorizedHashCode_126 : decode cJ13_vectorizedHashCode 126 = .ok (.goto 31, 3) := dk_167 0 31 (dk_at dksJ13_vectorizedHashCode_5 13 rfl rfl)
theorem dJ13_vectorizedHashCode_129 : decode cJ13_vectorizedHashCode 129 = .ok (.new 87, 3) := dk_187 0 87 (dk_at dksJ13_vectorizedHashCode_5 16 rfl rfl)
theorem dJ13_vectorizedHashCode_132 : decode cJ13_vectorizedHashCode 132 = .ok (.dup, 1) := dk_89 (dk_at dksJ13_vectorizedHashCode_5 19 rfl rfl)
theorem dJ13_vectorizedHashCode_133 : decode cJ13_vectorizedHashCode 133 = .ok (.new 89, 3) := dk_187 0 89 (dk_at dksJ13_vectorizedHashCode_5 20 rfl rfl)
theorem dJ13_vectorizedHashCode_136 : decode cJ13_vectorizedHashCode 136 = .ok (.dup, 1) := dk_89 (dk_at dksJ13_vectorizedHashCode_5 23 rfl rfl)
theorem dJ13_vectorizedHashCode_137 : decode cJ13_vectorizedHashCode 137 = .ok (.invokespecial 91, 3) := dk_183 0 91 (dk_at dksJ13_vectorizedHashCode_6 0 rfl rfl)
theorem dJ13_vectorizedHashCode_140 : decode cJ13_vectorizedHashCode 140 = .ok (.ldc 92, 2) := dk_18 92 (dk_at dksJ13_vectorizedHashCode_6 3 rfl rfl)
theorem dJ13_vectorizedHashCode_142 : decode cJ13_vectorizedHashCode 142 = .ok (.invokevirtual 94, 3) := dk_182 0 94 (dk_at dksJ13_vectorizedHashCode_6 5 rfl rfl)
theorem dJ13_vectorizedHashCode_145 : decode cJ13_vectorizedHashCode 145 = .ok (.iload 4, 2) := dk_21 4 (dk_at dksJ13_vectorizedHashCode_6 8 rfl rfl)
theorem dJ13_vectorizedHashCode_147 : decode cJ13_vectorizedHashCode 147 = .ok (.invokevirtual 98, 3) := dk_182 0 98 (dk_at dksJ13_vectorizedHashCode_6 10 rfl rfl)
theorem dJ13_vectorizedHashCode_150 : decode cJ13_vectorizedHashCode 150 = .ok (.invokevirtual 101, 3) := dk_182 0 101 (dk_at dksJ13_vectorizedHashCode_6 13 rfl rfl)
theorem dJ13_vectorizedHashCode_153 : decode cJ13_vectorizedHashCode 153 = .ok (.invokespecial 105, 3) := dk_183 0 105 (dk_at dksJ13_vectorizedHashCode_6 16 rfl rfl)
theorem dJ13_vectorizedHashCode_156 : decode cJ13_vectorizedHashCode 156 = .ok (.athrow, 1) := dk_191 (dk_at dksJ13_vectorizedHashCode_6 19 rfl rfl)
theorem dJ13_vectorizedHashCode_157 : decode cJ13_vectorizedHashCode 157 = .ok (.ireturn, 1) := dk_172 (dk_at dksJ13_vectorizedHashCode_6 20 rfl rfl)
/-- jdk/internal/util/ArraysSupport.vectorizedHashCode(Ljava/lang/Object;IIII)I -/
def zb399 (G : zPg) (C : zO) (args : List Value) (Q : zQ) (Y : zY) (σ : zS) : Prop := ∃ (x1 : Option Nat) (x2 : Int32) (x3 : Int32) (x4 : Int32) (x5 : Int32), args = [va_rf x1, .int x2, .int x3, .int x4, .int x5] ∧ (zJ (fun  (s1 : zS) => znew s1 6 [] 6 (fun s3 => znew s3 8 [va_rf none, .int 0, .int 0, .int 0] 4 (fun s6 => (∃ a12, (some s3.2.1) = some a12 ∧ zcl C 346 [.ref a12] Y s6 (zqV (fun s10 => False)))))) (fun (j2 : zS → Prop) => zJ (fun (p14 : Int32) (s15 : zS) => Q (some (.int p14)) s15) (fun (j16 : Int32 → zS → Prop) => (x5.toInt < (4) ∨ (10) < x5.toInt → j2 σ) ∧ (x5 = (4) → (∃ a19 n20, x1 = some a19 ∧ G.1 ≤ a19 ∧ σ.1 a19 = some (.inl (2, n20)) ∧ zcl C 400 [.int x4, va_rf x1, .int x2, .int x3] Y σ (zqI (fun v24 s25 => j16 v24 s25)))) ∧ (x5 = (5) → False) ∧ (x5 = (6) → j2 σ) ∧ (x5 = (7) → j2 σ) ∧ (x5 = (8) → (∃ a27 n28, x1 = some a27 ∧ G.1 ≤ a27 ∧ σ.1 a27 = some (.inl (2, n28)) ∧ zcl C 403 [.int x4, va_rf x1, .int x2, .int x3] Y σ (zqI (fun v32 s33 => j16 v32 s33)))) ∧ (x5 = (9) → False) ∧ (x5 = (10) → (∃ a35 n36, x1 = some a35 ∧ G.1 ≤ a35 ∧ σ.1 a35 = some (.inl (0, n36)) ∧ zcl C 405 [.int x4, va_rf x1, .int x2, .int x3] Y σ (zqI (fun v40 s41 => j16 v40 s41)))))))
set_option maxHeartbeats 4000000 in
theorem wk399 {l : Launch} {g : zG} {d : Nat} {C : zO} (hG : zGk g) (hC : zSound l g d C) {args : List Value} {Q : zQ} {Y : zY} {σ : zS} (hw : zb399 (zpg g) C args Q Y σ) : zMet l g (d + 1) (⟨"jdk/internal/util/ArraysSupport", "vectorizedHashCode", "(Ljava/lang/Object;IIII)I"⟩, Cond.code ⟨"jdk/internal/util/ArraysSupport", "vectorizedHashCode", "(Ljava/lang/Object;IIII)I"⟩ prog_73_method_4_code 5 (Option.some FieldType.int)) args σ Q Y := by
  obtain ⟨x1, x2, x3, x4, x5, rfl, hw⟩ := hw
  refine zof hG (by decide +kernel) [false, false, false, false, false] ⟨(zc_rf _), rfl, rfl, rfl, rfl, trivial⟩ (Nat.le_of_ble_eq_true rfl) (ls := [some (va_rf x1), some (.int x2), some (.int x3), some (.int x4), some (.int x5)]) rfl ?_
  intro X hX hR hTb hd1 hd2 hl hg hnm
  subst hl
  subst hg
  have hd : zDep X d := ⟨hd1, hd2⟩
  refine z_iload hX dJ13_vectorizedHashCode_0 (i := 4) rfl ?_
  refine zJ_w (P := fun (j : zS → Prop) => ∀  (s1 : zS), j  s1 → zW X s1 129 [none, none, none, none, some (.int x5)] []) hw (fun  s1 hw => ?_) (fun j2 hj2 hw => ?_)
  · refine z_new hX zc6 dJ13_vectorizedHashCode_129 q2330 q1071 q141 (fs := []) (fun j hj => absurd hj (Nat.not_lt_zero _)) hw.1 hw.2.1 (fun z4 => z_nm (fun s3 e5 => ?_))
    have hw := hw.2.2 z4 s3 e5
    refine z_dup hX dJ13_vectorizedHashCode_132 (zc_rf _) ?_
    refine z_new hX zc8 dJ13_vectorizedHashCode_133 q2331 q1095 q145 (fs := [va_rf none, .int 0, .int 0, .int 0]) (fun j hj => by have hj : j < 4 := hj; exact zdf8 j hj) hw.1 hw.2.1 (fun z7 => z_nm (fun s6 e8 => ?_))
    have hw := hw.2.2 z7 s6 e8
    refine z_dup hX dJ13_vectorizedHashCode_136 (zc_rf _) ?_
    obtain ⟨a12, r13, hw⟩ := hw
    refine z_invI hX hd r13 dJ13_vectorizedHashCode_137 (hC 346 _ zm346 _ _ _ _ hw) q2332 q1097 rfl zh16 q1098 q145 zn346 rfl (Nat.le_of_ble_eq_true rfl) (st := [va_rf (some s3.2.1), va_rf (some s1.2.1), va_rf (some s1.2.1)]) rfl (zcs8 (Nat.le_of_ble_eq_true rfl)) rfl (zkV (fun s10 hw => ?_)) (zout hX hR hTb)
    exact hw.elim
  · refine zJ_w (P := fun (j : Int32 → zS → Prop) => ∀ (p14 : Int32) (s15 : zS), j p14 s15 → zW X s15 157 [none, none, none, none, none] [.int p14]) hw (fun p14 s15 hw => ?_) (fun j16 hj16 hw => ?_)
    · exact z_ireturn hX hR dJ13_vectorizedHashCode_157 rfl hw
    · rcases zsw x5 4 7 (by decide) (by decide) with c17 | ⟨j18, hj18, c17⟩
      · have c17 : x5.toInt < (4) ∨ (10) < x5.toInt := by omega
        refine z_tableOut hX dJ13_vectorizedHashCode_2 c17 (tgt := 129) rfl ?_
        have hw := hw.1 c17
        refine z_sub (ls' := [none, none, none, none, some (.int x5)]) (zsN (zsN (zsN (zsN (zsS (zs0)))))) ?_
        exact hj2  _ hw
      · match j18, hj18, c17 with
        | 0, _, c17 =>
          have c17 : x5 = (4) := c17
          refine z_tableIn hX dJ13_vectorizedHashCode_2 (by rw [c17]; decide) (by rw [c17]; decide) (off := 42) (by rw [c17]; rfl) (tgt := 44) rfl ?_
          have hw := hw.2.1 c17
          refine z_iload_n hX dJ13_vectorizedHashCode_44 rfl (i := 3) rfl ?_
          refine z_aload_n hX dJ13_vectorizedHashCode_45 rfl (i := 0) rfl ?_
          obtain ⟨a19, n20, r21, g22, m23, hw⟩ := hw
          refine z_castA hX 2 dJ13_vectorizedHashCode_46 q2295 rfl (fun _ _ h => h) r21 g22 m23 ?_
          refine z_iload_n hX dJ13_vectorizedHashCode_49 rfl (i := 1) rfl ?_
          refine z_iload_n hX dJ13_vectorizedHashCode_50 rfl (i := 2) rfl ?_
          refine z_invS hX hd dJ13_vectorizedHashCode_51 (hC 400 _ zm400 _ _ _ _ hw) q2296 q2297 zh19 q2298 q148 zn400 rfl (Nat.le_of_ble_eq_true rfl) (st := []) rfl (zcs8 (Nat.le_of_ble_eq_true rfl)) rfl (zkI (fun v24 s25 hw => ?_)) (zout hX hR hTb)
          refine z_goto hX dJ13_vectorizedHashCode_54 (tgt := 157) rfl ?_
          refine z_sub (ls' := [none, none, none, none, none]) (zsN (zsN (zsN (zsN (zsN (zs0)))))) ?_
          exact hj16 _ _ hw
        | 1, _, c17 =>
          have c17 : x5 = (5) := c17
          refine z_tableIn hX dJ13_vectorizedHashCode_2 (by rw [c17]; decide) (by rw [c17]; decide) (off := 55) (by rw [c17]; rfl) (tgt := 57) rfl ?_
          have hw := hw.2.2.1 c17
          refine z_aload_n hX dJ13_vectorizedHashCode_57 rfl (i := 0) rfl ?_
          exact hw.elim
        | 2, _, c17 =>
          have c17 : x5 = (6) := c17
          refine z_tableIn hX dJ13_vectorizedHashCode_2 (by rw [c17]; decide) (by rw [c17]; decide) (off := 127) (by rw [c17]; rfl) (tgt := 129) rfl ?_
          have hw := hw.2.2.2.1 c17
          refine z_sub (ls' := [none, none, none, none, some (.int x5)]) (zsN (zsN (zsN (zsN (zsS (zs0)))))) ?_
          exact hj2  _ hw
        | 3, _, c17 =>
          have c17 : x5 = (7) := c17
          refine z_tableIn hX dJ13_vectorizedHashCode_2 (by rw [c17]; decide) (by rw [c17]; decide) (off := 127) (by rw [c17]; rfl) (tgt := 129) rfl ?_
          have hw := hw.2.2.2.2.1 c17
          refine z_sub (ls' := [none, none, none, none, some (.int x5)]) (zsN (zsN (zsN (zsN (zsS (zs0)))))) ?_
          exact hj2  _ hw
        | 4, _, c17 =>
          have c17 : x5 = (8) := c17
          refine z_tableIn hX dJ13_vectorizedHashCode_2 (by rw [c17]; decide) (by rw [c17]; decide) (off := 88) (by rw [c17]; rfl) (tgt := 90) rfl ?_
          have hw := hw.2.2.2.2.2.1 c17
          refine z_iload_n hX dJ13_vectorizedHashCode_90 rfl (i := 3) rfl ?_
          refine z_aload_n hX dJ13_vectorizedHashCode_91 rfl (i := 0) rfl ?_
          obtain ⟨a27, n28, r29, g30, m31, hw⟩ := hw
          refine z_castA hX 2 dJ13_vectorizedHashCode_92 q2295 rfl (fun _ _ h => h) r29 g30 m31 ?_
          refine z_iload_n hX dJ13_vectorizedHashCode_95 rfl (i := 1) rfl ?_
          refine z_iload_n hX dJ13_vectorizedHashCode_96 rfl (i := 2) rfl ?_
          refine z_invS hX hd dJ13_vectorizedHashCode_97 (hC 403 _ zm403 _ _ _ _ hw) q2319 q2320 zh19 q2321 q148 zn403 rfl (Nat.le_of_ble_eq_true rfl) (st := []) rfl (zcs8 (Nat.le_of_ble_eq_true rfl)) rfl (zkI (fun v32 s33 hw => ?_)) (zout hX hR hTb)
          refine z_goto hX dJ13_vectorizedHashCode_100 (tgt := 157) rfl ?_
          refine z_sub (ls' := [none, none, none, none, none]) (zsN (zsN (zsN (zsN (zsN (zs0)))))) ?_
          exact hj16 _ _ hw
        | 5, _, c17 =>
          have c17 : x5 = (9) := c17
          refine z_tableIn hX dJ13_vectorizedHashCode_2 (by rw [c17]; decide) (by rw [c17]; decide) (off := 101) (by rw [c17]; rfl) (tgt := 103) rfl ?_
          have hw := hw.2.2.2.2.2.2.1 c17
          refine z_iload_n hX dJ13_vectorizedHashCode_103 rfl (i := 3) rfl ?_
          refine z_aload_n hX dJ13_vectorizedHashCode_104 rfl (i := 0) rfl ?_
          exact hw.elim
        | 6, _, c17 =>
          have c17 : x5 = (10) := c17
          refine z_tableIn hX dJ13_vectorizedHashCode_2 (by rw [c17]; decide) (by rw [c17]; decide) (off := 114) (by rw [c17]; rfl) (tgt := 116) rfl ?_
          have hw := hw.2.2.2.2.2.2.2 c17
          refine z_iload_n hX dJ13_vectorizedHashCode_116 rfl (i := 3) rfl ?_
          refine z_aload_n hX dJ13_vectorizedHashCode_117 rfl (i := 0) rfl ?_
          obtain ⟨a35, n36, r37, g38, m39, hw⟩ := hw
          refine z_castA hX 0 dJ13_vectorizedHashCode_118 q2326 rfl (fun _ _ h => h) r37 g38 m39 ?_
          refine z_iload_n hX dJ13_vectorizedHashCode_121 rfl (i := 1) rfl ?_
          refine z_iload_n hX dJ13_vectorizedHashCode_122 rfl (i := 2) rfl ?_
          refine z_invS hX hd dJ13_vectorizedHashCode_123 (hC 405 _ zm405 _ _ _ _ hw) q2327 q2328 zh19 q2329 q148 zn405 rfl (Nat.le_of_ble_eq_true rfl) (st := []) rfl (zcs8 (Nat.le_of_ble_eq_true rfl)) rfl (zkI (fun v40 s41 hw => ?_)) (zout hX hR hTb)
          refine z_goto hX dJ13_vectorizedHashCode_126 (tgt := 157) rfl ?_
          refine z_sub (ls' := [none, none, none, none, none]) (zsN (zsN (zsN (zsN (zsN (zs0)))))) ?_
          exact hj16 _ _ hw
        | j18 + 7, h, _ => exact absurd h (by omega)
abbrev cJ13_signedHashCode : ByteArray := prog_73_method_5_code
def yJ13_signedHashCode : MethodName := ⟨RJ13, "signedHashCode", "(I[BII)I"⟩
def dkwJ13_signedHashCode_1 : List UInt8 := [17, 0, 255, 126, 96, 59, 132, 5, 1, 167, 255, 232, 26, 172]
abbrev dktJ13_signedHashCode_1 : List UInt8 := dkwJ13_signedHashCode_1 ++ []
def dkwJ13_signedHashCode_0 : List UInt8 := [28, 29, 96, 54, 4, 28, 54, 5, 21, 5, 21, 4, 162, 0, 23, 16, 31, 26, 104, 43, 21, 5, 51]
abbrev dktJ13_signedHashCode_0 : List UInt8 := dkwJ13_signedHashCode_0 ++ dktJ13_signedHashCode_1
theorem dksJ13_signedHashCode_0 : cJ13_signedHashCode.data.toList.drop 0 = dktJ13_signedHashCode_0 := by decide +kernel
theorem dksJ13_signedHashCode_1 : cJ13_signedHashCode.data.toList.drop 23 = dktJ13_signedHashCode_1 := dk_seg dksJ13_signedHashCode_0 23 rfl rfl
theorem dJ13_signedHashCode_0 : decode cJ13_signedHashCode 0 = .ok (.iload_n 2, 1) := dk_28 (dk_at dksJ13_signedHashCode_0 0 rfl rfl)
theorem dJ13_signedHashCode_1 : decode cJ13_signedHashCode 1 = .ok (.iload_n 3, 1) := dk_29 (dk_at dksJ13_signedHashCode_0 1 rfl rfl)
theorem dJ13_signedHashCode_2 : decode cJ13_signedHashCode 2 = .ok (.iadd, 1) := dk_96 (dk_at dksJ13_signedHashCode_0 2 rfl rfl)
theorem dJ13_signedHashCode_3 : decode cJ13_signedHashCode 3 = .ok (.istore 4, 2) := dk_54 4 (dk_at dksJ13_signedHashCode_0 3 rfl rfl)
theorem dJ13_signedHashCode_5 : decode cJ13_signedHashCode 5 = .ok (.iload_n 2, 1) := dk_28 (dk_at dksJ13_signedHashCode_0 5 rfl rfl)
theorem dJ13_signedHashCode_6 : decode cJ13_signedHashCode 6 = .ok (.istore 5, 2) := dk_54 5 (dk_at dksJ13_signedHashCode_0 6 rfl rfl)
theorem dJ13_signedHashCode_8 : decode cJ13_signedHashCode 8 = .ok (.iload 5, 2) := dk_21 5 (dk_at dksJ13_signedHashCode_0 8 rfl rfl)
theorem dJ13_signedHashCode_10 : decode cJ13_signedHashCode 10 = .ok (.iload 4, 2) := dk_21 4 (dk_at dksJ13_signedHashCode_0 10 rfl rfl)
theorem dJ13_signedHashCode_12 : decode cJ13_signedHashCode 12 = .ok (.if_icmp .ge 23, 3) := dk_162 0 23 (dk_at dksJ13_signedHashCode_0 12 rfl rfl)
theorem dJ13_signedHashCode_15 : decode cJ13_signedHashCode 15 = .ok (.bipush 31, 2) := dk_16 31 (dk_at dksJ13_signedHashCode_0 15 rfl rfl)
theorem dJ13_signedHashCode_17 : decode cJ13_signedHashCode 17 = .ok (.iload_n 0, 1) := dk_26 (dk_at dksJ13_signedHashCode_0 17 rfl rfl)
theorem dJ13_signedHashCode_18 : decode cJ13_signedHashCode 18 = .ok (.imul, 1) := dk_104 (dk_at dksJ13_signedHashCode_0 18 rfl rfl)
theorem dJ13_signedHashCode_19 : decode cJ13_signedHashCode 19 = .ok (.aload_n 1, 1) := dk_43 (dk_at dksJ13_signedHashCode_0 19 rfl rfl)
theorem dJ13_signedHashCode_20 : decode cJ13_signedHashCode 20 = .ok (.iload 5, 2) := dk_21 5 (dk_at dksJ13_signedHashCode_0 20 rfl rfl)
theorem dJ13_signedHashCode_22 : decode cJ13_signedHashCode 22 = .ok (.baload, 1) := dk_51 (dk_at dksJ13_signedHashCode_0 22 rfl rfl)
theorem dJ13_signedHashCode_23 : decode cJ13_signedHashCode 23 = .ok (.sipush 255, 3) := dk_17 0 255 (dk_at dksJ13_signedHashCode_1 0 rfl rfl)
theorem dJ13_signedHashCode_26 : decode cJ13_signedHashCode 26 = .ok (.iand, 1) := dk_126 (dk_at dksJ13_signedHashCode_1 3 rfl rfl)
theorem dJ13_signedHashCode_27 : decode cJ13_signedHashCode 27 = .ok (.iadd, 1) := dk_96 (dk_at dksJ13_signedHashCode_1 4 rfl rfl)
theorem dJ13_signedHashCode_28 : decode cJ13_signedHashCode 28 = .ok (.istore_n 0, 1) := dk_59 (dk_at dksJ13_signedHashCode_1 5 rfl rfl)
theorem dJ13_signedHashCode_29 : decode cJ13_signedHashCode 29 = .ok (.iinc 5 1, 3) := dk_132 5 1 (dk_at dksJ13_signedHashCode_1 6 rfl rfl)
theorem dJ13_signedHashCode_32 : decode cJ13_signedHashCode 32 = .ok (.goto (-24), 3) := dk_167 255 232 (dk_at dksJ13_signedHashCode_1 9 rfl rfl)
theorem dJ13_signedHashCode_35 : decode cJ13_signedHashCode 35 = .ok (.iload_n 0, 1) := dk_26 (dk_at dksJ13_signedHashCode_1 12 rfl rfl)
theorem dJ13_signedHashCode_36 : decode cJ13_signedHashCode 36 = .ok (.ireturn, 1) := dk_172 (dk_at dksJ13_signedHashCode_1 13 rfl rfl)
/-- jdk/internal/util/ArraysSupport.signedHashCode(I[BII)I -/
def zb400 (G : zPg) (C : zO) (args : List Value) (Q : zQ) (Y : zY) (σ : zS) : Prop := ∃ (x1 : Int32) (x2 : Option Nat) (x3 : Int32) (x4 : Int32), args = [.int x1, va_rf x2, .int x3, .int x4] ∧ (∃ n, zIt (fun _ _ _ => False) (fun rec4 (p1 : Int32) (p2 : Int32) (s3 : zS) => (((x3 + x4) ≤ p2) → Q (some (.int p1)) s3) ∧ ((¬ (x3 + x4) ≤ p2) → zaI s3 2 x2 p2 (fun v12 => (∀ v14 : Int32, v14 = (((31 : Int32) * p1) + (v12 &&& (255 : Int32))) → (∀ v16 : Int32, v16 = p2 + (1 : Int32) → rec4 v14 v16 s3))))) n x1 x3 σ)
set_option maxHeartbeats 4000000 in
theorem wk400 {l : Launch} {g : zG} {d : Nat} {C : zO} (hG : zGk g) (hC : zSound l g d C) {args : List Value} {Q : zQ} {Y : zY} {σ : zS} (hw : zb400 (zpg g) C args Q Y σ) : zMet l g (d + 1) (⟨"jdk/internal/util/ArraysSupport", "signedHashCode", "(I[BII)I"⟩, Cond.code ⟨"jdk/internal/util/ArraysSupport", "signedHashCode", "(I[BII)I"⟩ prog_73_method_5_code 6 (Option.some FieldType.int)) args σ Q Y := by
  obtain ⟨x1, x2, x3, x4, rfl, hw⟩ := hw
  refine zof hG (by decide +kernel) [false, false, false, false] ⟨rfl, (zc_rf _), rfl, rfl, trivial⟩ (Nat.le_of_ble_eq_true rfl) (ls := [some (.int x1), some (va_rf x2), some (.int x3), some (.int x4), none, none]) rfl ?_
  intro X hX hR hTb hd1 hd2 hl hg hnm
  subst hl
  subst hg
  have hd : zDep X d := ⟨hd1, hd2⟩
  refine z_iload_n hX dJ13_signedHashCode_0 rfl (i := 2) rfl ?_
  refine z_iload_n hX dJ13_signedHashCode_1 rfl (i := 3) rfl ?_
  refine z_iadd hX dJ13_signedHashCode_2 ?_
  refine z_istore hX dJ13_signedHashCode_3 (i := 4) (Nat.le_of_ble_eq_true rfl) rfl (ls2 := [some (.int x1), some (va_rf x2), some (.int x3), some (.int x4), some (.int (x3 + x4)), none]) rfl ?_
  refine z_iload_n hX dJ13_signedHashCode_5 rfl (i := 2) rfl ?_
  refine z_istore hX dJ13_signedHashCode_6 (i := 5) (Nat.le_of_ble_eq_true rfl) rfl (ls2 := [some (.int x1), some (va_rf x2), some (.int x3), some (.int x4), some (.int (x3 + x4)), some (.int x3)]) rfl ?_
  obtain ⟨n18, hw⟩ := hw
  refine z_sub (ls' := [some (.int x1), some (va_rf x2), none, none, some (.int (x3 + x4)), some (.int x3)]) (zsS (zsS (zsN (zsN (zsS (zsS (zs0))))))) ?_
  refine zIt_w (P := fun (j : Int32 → Int32 → zS → Prop) => ∀ (p1 : Int32) (p2 : Int32) (s3 : zS), j p1 p2 s3 → zW X s3 8 [some (.int p1), some (va_rf x2), none, none, some (.int (x3 + x4)), some (.int p2)] []) (fun _ _ _ h => h.elim) (fun rec4 hrec4 p1 p2 s3 hw => ?_) n18 _ _ _ hw
  refine z_iload hX dJ13_signedHashCode_8 (i := 5) rfl ?_
  refine z_iload hX dJ13_signedHashCode_10 (i := 4) rfl ?_
  refine z_icmp_ge hX dJ13_signedHashCode_12 (tgt := 35) rfl (fun c5 => ?_) (fun c5 => ?_)
  · have hw := hw.1 c5
    refine z_iload_n hX dJ13_signedHashCode_35 rfl (i := 0) rfl ?_
    exact z_ireturn hX hR dJ13_signedHashCode_36 rfl hw
  · have hw := hw.2 c5
    refine z_bipush hX (v := (31 : Int32)) dJ13_signedHashCode_15 (by decide) ?_
    refine z_iload_n hX dJ13_signedHashCode_17 rfl (i := 0) rfl ?_
    refine z_imul hX dJ13_signedHashCode_18 ?_
    refine z_aload_n hX dJ13_signedHashCode_19 rfl (i := 1) rfl ?_
    refine z_iload hX dJ13_signedHashCode_20 (i := 5) rfl ?_
    obtain ⟨a6, n7, f8, r9, m10, i11, hw⟩ := hw
    refine z_bald hX dJ13_signedHashCode_22 r9 m10 i11 ?_
    revert hw
    generalize f8 (Int32.toNatClampNeg p2) = v12
    intro hw
    refine z_sipush hX (v := (255 : Int32)) dJ13_signedHashCode_23 (by decide) ?_
    refine z_iand hX dJ13_signedHashCode_26 ?_
    refine z_iadd hX dJ13_signedHashCode_27 ?_
    refine z_topi (fun v14 e15 => ?_)
    have hw := hw v14 e15
    refine z_istore_n hX dJ13_signedHashCode_28 rfl (i := 0) (Nat.le_of_ble_eq_true rfl) trivial (ls2 := [some (.int v14), some (va_rf x2), none, none, some (.int (x3 + x4)), some (.int p2)]) rfl ?_
    obtain ⟨v16, e17⟩ : ∃ y : Int32, y = p2 + (1 : Int32) := ⟨_, rfl⟩
    refine z_iinc hX dJ13_signedHashCode_29 (i := 5) (v := v16) rfl (by rw [e17]; rfl) (Nat.le_of_ble_eq_true rfl) rfl (ls2 := [some (.int v14), some (va_rf x2), none, none, some (.int (x3 + x4)), some (.int v16)]) rfl ?_
    have hw := hw v16 e17
    refine z_goto hX dJ13_signedHashCode_32 (tgt := 8) rfl ?_
    exact hrec4 _ _ _ hw
abbrev cJ13_utf16hashCode : ByteArray := prog_73_method_10_code
def yJ13_utf16hashCode : MethodName := ⟨RJ13, "utf16hashCode", "(I[BII)I"⟩
def dkwJ13_utf16hashCode_1 : List UInt8 := [21, 5, 185, 0, 110, 3, 0, 96, 59, 132, 5, 1, 167, 255, 229, 26, 172]
abbrev dktJ13_utf16hashCode_1 : List UInt8 := dkwJ13_utf16hashCode_1 ++ []
def dkwJ13_utf16hashCode_0 : List UInt8 := [28, 29, 96, 54, 4, 28, 54, 5, 21, 5, 21, 4, 162, 0, 26, 16, 31, 26, 104, 178, 0, 106, 43]
abbrev dktJ13_utf16hashCode_0 : List UInt8 := dkwJ13_utf16hashCode_0 ++ dktJ13_utf16hashCode_1
theorem dksJ13_utf16hashCode_0 : cJ13_utf16hashCode.data.toList.drop 0 = dktJ13_utf16hashCode_0 := by decide +kernel
theorem dksJ13_utf16hashCode_1 : cJ13_utf16hashCode.data.toList.drop 23 = dktJ13_utf16hashCode_1 := dk_seg dksJ13_utf16hashCode_0 23 rfl rfl
theorem dJ13_utf16hashCode_0 : decode cJ13_utf16hashCode 0 = .ok (.iload_n 2, 1) := dk_28 (dk_at dksJ13_utf16hashCode_0 0 rfl rfl)
theorem dJ13_utf16hashCode_1 : decode cJ13_utf16hashCode 1 = .ok (.iload_n 3, 1) := dk_29 (dk_at dksJ13_utf16hashCode_0 1 rfl rfl)
theorem dJ13_utf16hashCode_2 : decode cJ13_utf16hashCode 2 = .ok (.iadd, 1) := dk_96 (dk_at dksJ13_utf16hashCode_0 2 rfl rfl)
theorem dJ13_utf16hashCode_3 : decode cJ13_utf16hashCode 3 = .ok (.istore 4, 2) := dk_54 4 (dk_at dksJ13_utf16hashCode_0 3 rfl rfl)
theorem dJ13_utf16hashCode_5 : decode cJ13_utf16hashCode 5 = .ok (.iload_n 2, 1) := dk_28 (dk_at dksJ13_utf16hashCode_0 5 rfl rfl)
theorem dJ13_utf16hashCode_6 : decode cJ13_utf16hashCode 6 = .ok (.istore 5, 2) := dk_54 5 (dk_at dksJ13_utf16hashCode_0 6 rfl rfl)
theorem dJ13_utf16hashCode_8 : decode cJ13_utf16hashCode 8 = .ok (.iload 5, 2) := dk_21 5 (dk_at dksJ13_utf16hashCode_0 8 rfl rfl)
theorem dJ13_utf16hashCode_10 : decode cJ13_utf16hashCode 10 = .ok (.iload 4, 2) := dk_21 4 (dk_at dksJ13_utf16hashCode_0 10 rfl rfl)
theorem dJ13_utf16hashCode_12 : decode cJ13_utf16hashCode 12 = .ok (.if_icmp .ge 26, 3) := dk_162 0 26 (dk_at dksJ13_utf16hashCode_0 12 rfl rfl)
theorem dJ13_utf16hashCode_15 : decode cJ13_utf16hashCode 15 = .ok (.bipush 31, 2) := dk_16 31 (dk_at dksJ13_utf16hashCode_0 15 rfl rfl)
theorem dJ13_utf16hashCode_17 : decode cJ13_utf16hashCode 17 = .ok (.iload_n 0, 1) := dk_26 (dk_at dksJ13_utf16hashCode_0 17 rfl rfl)
theorem dJ13_utf16hashCode_18 : decode cJ13_utf16hashCode 18 = .ok (.imul, 1) := dk_104 (dk_at dksJ13_utf16hashCode_0 18 rfl rfl)
theorem dJ13_utf16hashCode_19 : decode cJ13_utf16hashCode 19 = .ok (.getstatic 106, 3) := dk_178 0 106 (dk_at dksJ13_utf16hashCode_0 19 rfl rfl)
theorem dJ13_utf16hashCode_22 : decode cJ13_utf16hashCode 22 = .ok (.aload_n 1, 1) := dk_43 (dk_at dksJ13_utf16hashCode_0 22 rfl rfl)
theorem dJ13_utf16hashCode_23 : decode cJ13_utf16hashCode 23 = .ok (.iload 5, 2) := dk_21 5 (dk_at dksJ13_utf16hashCode_1 0 rfl rfl)
theorem dJ13_utf16hashCode_25 : decode cJ13_utf16hashCode 25 = .ok (.invokeinterface 110 3, 5) := by decide +kernel
theorem dJ13_utf16hashCode_30 : decode cJ13_utf16hashCode 30 = .ok (.iadd, 1) := dk_96 (dk_at dksJ13_utf16hashCode_1 7 rfl rfl)
theorem dJ13_utf16hashCode_31 : decode cJ13_utf16hashCode 31 = .ok (.istore_n 0, 1) := dk_59 (dk_at dksJ13_utf16hashCode_1 8 rfl rfl)
theorem dJ13_utf16hashCode_32 : decode cJ13_utf16hashCode 32 = .ok (.iinc 5 1, 3) := dk_132 5 1 (dk_at dksJ13_utf16hashCode_1 9 rfl rfl)
theorem dJ13_utf16hashCode_35 : decode cJ13_utf16hashCode 35 = .ok (.goto (-27), 3) := dk_167 255 229 (dk_at dksJ13_utf16hashCode_1 12 rfl rfl)
theorem dJ13_utf16hashCode_38 : decode cJ13_utf16hashCode 38 = .ok (.iload_n 0, 1) := dk_26 (dk_at dksJ13_utf16hashCode_1 15 rfl rfl)
theorem dJ13_utf16hashCode_39 : decode cJ13_utf16hashCode 39 = .ok (.ireturn, 1) := dk_172 (dk_at dksJ13_utf16hashCode_1 16 rfl rfl)
/-- jdk/internal/util/ArraysSupport.utf16hashCode(I[BII)I -/
def zb401 (G : zPg) (C : zO) (args : List Value) (Q : zQ) (Y : zY) (σ : zS) : Prop := ∃ (x1 : Int32) (x2 : Option Nat) (x3 : Int32) (x4 : Int32), args = [.int x1, va_rf x2, .int x3, .int x4] ∧ ((((x3 + x4) ≤ x3) → Q (some (.int x1)) σ) ∧ ((¬ (x3 + x4) ≤ x3) → False))
set_option maxHeartbeats 4000000 in
theorem wk401 {l : Launch} {g : zG} {d : Nat} {C : zO} (hG : zGk g) (hC : zSound l g d C) {args : List Value} {Q : zQ} {Y : zY} {σ : zS} (hw : zb401 (zpg g) C args Q Y σ) : zMet l g (d + 1) (⟨"jdk/internal/util/ArraysSupport", "utf16hashCode", "(I[BII)I"⟩, Cond.code ⟨"jdk/internal/util/ArraysSupport", "utf16hashCode", "(I[BII)I"⟩ prog_73_method_10_code 6 (Option.some FieldType.int)) args σ Q Y := by
  obtain ⟨x1, x2, x3, x4, rfl, hw⟩ := hw
  refine zof hG (by decide +kernel) [false, false, false, false] ⟨rfl, (zc_rf _), rfl, rfl, trivial⟩ (Nat.le_of_ble_eq_true rfl) (ls := [some (.int x1), some (va_rf x2), some (.int x3), some (.int x4), none, none]) rfl ?_
  intro X hX hR hTb hd1 hd2 hl hg hnm
  subst hl
  subst hg
  have hd : zDep X d := ⟨hd1, hd2⟩
  refine z_iload_n hX dJ13_utf16hashCode_0 rfl (i := 2) rfl ?_
  refine z_iload_n hX dJ13_utf16hashCode_1 rfl (i := 3) rfl ?_
  refine z_iadd hX dJ13_utf16hashCode_2 ?_
  refine z_istore hX dJ13_utf16hashCode_3 (i := 4) (Nat.le_of_ble_eq_true rfl) rfl (ls2 := [some (.int x1), some (va_rf x2), some (.int x3), some (.int x4), some (.int (x3 + x4)), none]) rfl ?_
  refine z_iload_n hX dJ13_utf16hashCode_5 rfl (i := 2) rfl ?_
  refine z_istore hX dJ13_utf16hashCode_6 (i := 5) (Nat.le_of_ble_eq_true rfl) rfl (ls2 := [some (.int x1), some (va_rf x2), some (.int x3), some (.int x4), some (.int (x3 + x4)), some (.int x3)]) rfl ?_
  refine z_iload hX dJ13_utf16hashCode_8 (i := 5) rfl ?_
  refine z_iload hX dJ13_utf16hashCode_10 (i := 4) rfl ?_
  refine z_icmp_ge hX dJ13_utf16hashCode_12 (tgt := 38) rfl (fun c1 => ?_) (fun c1 => ?_)
  · have hw := hw.1 c1
    refine z_iload_n hX dJ13_utf16hashCode_38 rfl (i := 0) rfl ?_
    exact z_ireturn hX hR dJ13_utf16hashCode_39 rfl hw
  · have hw := hw.2 c1
    refine z_bipush hX (v := (31 : Int32)) dJ13_utf16hashCode_15 (by decide) ?_
    refine z_iload_n hX dJ13_utf16hashCode_17 rfl (i := 0) rfl ?_
    refine z_imul hX dJ13_utf16hashCode_18 ?_
    exact hw.elim
abbrev cJ13_hashCode : ByteArray := prog_73_method_7_code
def yJ13_hashCode : MethodName := ⟨RJ13, "hashCode", "(I[CII)I"⟩
def dkwJ13_hashCode_1 : List UInt8 := [59, 132, 5, 1, 167, 255, 236, 26, 172]
abbrev dktJ13_hashCode_1 : List UInt8 := dkwJ13_hashCode_1 ++ []
def dkwJ13_hashCode_0 : List UInt8 := [28, 29, 96, 54, 4, 28, 54, 5, 21, 5, 21, 4, 162, 0, 19, 16, 31, 26, 104, 43, 21, 5, 52, 96]
abbrev dktJ13_hashCode_0 : List UInt8 := dkwJ13_hashCode_0 ++ dktJ13_hashCode_1
theorem dksJ13_hashCode_0 : cJ13_hashCode.data.toList.drop 0 = dktJ13_hashCode_0 := by decide +kernel
theorem dksJ13_hashCode_1 : cJ13_hashCode.data.toList.drop 24 = dktJ13_hashCode_1 := dk_seg dksJ13_hashCode_0 24 rfl rfl
theorem dJ13_hashCode_0 : decode cJ13_hashCode 0 = .ok (.iload_n 2, 1) := dk_28 (dk_at dksJ13_hashCode_0 0 rfl rfl)
theorem dJ13_hashCode_1 : decode cJ13_hashCode 1 = .ok (.iload_n 3, 1) := dk_29 (dk_at dksJ13_hashCode_0 1 rfl rfl)
theorem dJ13_hashCode_2 : decode cJ13_hashCode 2 = .ok (.iadd, 1) := dk_96 (dk_at dksJ13_hashCode_0 2 rfl rfl)
theorem dJ13_hashCode_3 : decode cJ13_hashCode 3 = .ok (.istore 4, 2) := dk_54 4 (dk_at dksJ13_hashCode_0 3 rfl rfl)
theorem dJ13_hashCode_5 : decode cJ13_hashCode 5 = .ok (.iload_n 2, 1) := dk_28 (dk_at dksJ13_hashCode_0 5 rfl rfl)
theorem dJ13_hashCode_6 : decode cJ13_hashCode 6 = .ok (.istore 5, 2) := dk_54 5 (dk_at dksJ13_hashCode_0 6 rfl rfl)
theorem dJ13_hashCode_8 : decode cJ13_hashCode 8 = .ok (.iload 5, 2) := dk_21 5 (dk_at dksJ13_hashCode_0 8 rfl rfl)
theorem dJ13_hashCode_10 : decode cJ13_hashCode 10 = .ok (.iload 4, 2) := dk_21 4 (dk_at dksJ13_hashCode_0 10 rfl rfl)
theorem dJ13_hashCode_12 : decode cJ13_hashCode 12 = .ok (.if_icmp .ge 19, 3) := dk_162 0 19 (dk_at dksJ13_hashCode_0 12 rfl rfl)
theorem dJ13_hashCode_15 : decode cJ13_hashCode 15 = .ok (.bipush 31, 2) := dk_16 31 (dk_at dksJ13_hashCode_0 15 rfl rfl)
theorem dJ13_hashCode_17 : decode cJ13_hashCode 17 = .ok (.iload_n 0, 1) := dk_26 (dk_at dksJ13_hashCode_0 17 rfl rfl)
theorem dJ13_hashCode_18 : decode cJ13_hashCode 18 = .ok (.imul, 1) := dk_104 (dk_at dksJ13_hashCode_0 18 rfl rfl)
theorem dJ13_hashCode_19 : decode cJ13_hashCode 19 = .ok (.aload_n 1, 1) := dk_43 (dk_at dksJ13_hashCode_0 19 rfl rfl)
theorem dJ13_hashCode_20 : decode cJ13_hashCode 20 = .ok (.iload 5, 2) := dk_21 5 (dk_at dksJ13_hashCode_0 20 rfl rfl)
theorem dJ13_hashCode_22 : decode cJ13_hashCode 22 = .ok (.caload, 1) := dk_52 (dk_at dksJ13_hashCode_0 22 rfl rfl)
theorem dJ13_hashCode_23 : decode cJ13_hashCode 23 = .ok (.iadd, 1) := dk_96 (dk_at dksJ13_hashCode_0 23 rfl rfl)
theorem dJ13_hashCode_24 : decode cJ13_hashCode 24 = .ok (.istore_n 0, 1) := dk_59 (dk_at dksJ13_hashCode_1 0 rfl rfl)
theorem dJ13_hashCode_25 : decode cJ13_hashCode 25 = .ok (.iinc 5 1, 3) := dk_132 5 1 (dk_at dksJ13_hashCode_1 1 rfl rfl)
theorem dJ13_hashCode_28 : decode cJ13_hashCode 28 = .ok (.goto (-20), 3) := dk_167 255 236 (dk_at dksJ13_hashCode_1 4 rfl rfl)
theorem dJ13_hashCode_31 : decode cJ13_hashCode 31 = .ok (.iload_n 0, 1) := dk_26 (dk_at dksJ13_hashCode_1 7 rfl rfl)
theorem dJ13_hashCode_32 : decode cJ13_hashCode 32 = .ok (.ireturn, 1) := dk_172 (dk_at dksJ13_hashCode_1 8 rfl rfl)
/-- jdk/internal/util/ArraysSupport.hashCode(I[CII)I -/
def zb402 (G : zPg) (C : zO) (args : List Value) (Q : zQ) (Y : zY) (σ : zS) : Prop := ∃ (x1 : Int32) (x2 : Option Nat) (x3 : Int32) (x4 : Int32), args = [.int x1, va_rf x2, .int x3, .int x4] ∧ ((((x3 + x4) ≤ x3) → Q (some (.int x1)) σ) ∧ ((¬ (x3 + x4) ≤ x3) → False))
set_option maxHeartbeats 4000000 in
theorem wk402 {l : Launch} {g : zG} {d : Nat} {C : zO} (hG : zGk g) (hC : zSound l g d C) {args : List Value} {Q : zQ} {Y : zY} {σ : zS} (hw : zb402 (zpg g) C args Q Y σ) : zMet l g (d + 1) (⟨"jdk/internal/util/ArraysSupport", "hashCode", "(I[CII)I"⟩, Cond.code ⟨"jdk/internal/util/ArraysSupport", "hashCode", "(I[CII)I"⟩ prog_73_method_7_code 6 (Option.some FieldType.int)) args σ Q Y := by
  obtain ⟨x1, x2, x3, x4, rfl, hw⟩ := hw
  refine zof hG (by decide +kernel) [false, false, false, false] ⟨rfl, (zc_rf _), rfl, rfl, trivial⟩ (Nat.le_of_ble_eq_true rfl) (ls := [some (.int x1), some (va_rf x2), some (.int x3), some (.int x4), none, none]) rfl ?_
  intro X hX hR hTb hd1 hd2 hl hg hnm
  subst hl
  subst hg
  have hd : zDep X d := ⟨hd1, hd2⟩
  refine z_iload_n hX dJ13_hashCode_0 rfl (i := 2) rfl ?_
  refine z_iload_n hX dJ13_hashCode_1 rfl (i := 3) rfl ?_
  refine z_iadd hX dJ13_hashCode_2 ?_
  refine z_istore hX dJ13_hashCode_3 (i := 4) (Nat.le_of_ble_eq_true rfl) rfl (ls2 := [some (.int x1), some (va_rf x2), some (.int x3), some (.int x4), some (.int (x3 + x4)), none]) rfl ?_
  refine z_iload_n hX dJ13_hashCode_5 rfl (i := 2) rfl ?_
  refine z_istore hX dJ13_hashCode_6 (i := 5) (Nat.le_of_ble_eq_true rfl) rfl (ls2 := [some (.int x1), some (va_rf x2), some (.int x3), some (.int x4), some (.int (x3 + x4)), some (.int x3)]) rfl ?_
  refine z_iload hX dJ13_hashCode_8 (i := 5) rfl ?_
  refine z_iload hX dJ13_hashCode_10 (i := 4) rfl ?_
  refine z_icmp_ge hX dJ13_hashCode_12 (tgt := 31) rfl (fun c1 => ?_) (fun c1 => ?_)
  · have hw := hw.1 c1
    refine z_iload_n hX dJ13_hashCode_31 rfl (i := 0) rfl ?_
    exact z_ireturn hX hR dJ13_hashCode_32 rfl hw
  · have hw := hw.2 c1
    refine z_bipush hX (v := (31 : Int32)) dJ13_hashCode_15 (by decide) ?_
    refine z_iload_n hX dJ13_hashCode_17 rfl (i := 0) rfl ?_
    refine z_imul hX dJ13_hashCode_18 ?_
    refine z_aload_n hX dJ13_hashCode_19 rfl (i := 1) rfl ?_
    refine z_iload hX dJ13_hashCode_20 (i := 5) rfl ?_
    exact hw.elim
abbrev cJ13_hashCode_2 : ByteArray := prog_73_method_6_code
def yJ13_hashCode_2 : MethodName := ⟨RJ13, "hashCode", "(I[BII)I"⟩
def dkwJ13_hashCode_2_1 : List UInt8 := [59, 132, 5, 1, 167, 255, 236, 26, 172]
abbrev dktJ13_hashCode_2_1 : List UInt8 := dkwJ13_hashCode_2_1 ++ []
def dkwJ13_hashCode_2_0 : List UInt8 := [28, 29, 96, 54, 4, 28, 54, 5, 21, 5, 21, 4, 162, 0, 19, 16, 31, 26, 104, 43, 21, 5, 51, 96]
abbrev dktJ13_hashCode_2_0 : List UInt8 := dkwJ13_hashCode_2_0 ++ dktJ13_hashCode_2_1
theorem dksJ13_hashCode_2_0 : cJ13_hashCode_2.data.toList.drop 0 = dktJ13_hashCode_2_0 := by decide +kernel
theorem dksJ13_hashCode_2_1 : cJ13_hashCode_2.data.toList.drop 24 = dktJ13_hashCode_2_1 := dk_seg dksJ13_hashCode_2_0 24 rfl rfl
theorem dJ13_hashCode_2_0 : decode cJ13_hashCode_2 0 = .ok (.iload_n 2, 1) := dk_28 (dk_at dksJ13_hashCode_2_0 0 rfl rfl)
theorem dJ13_hashCode_2_1 : decode cJ13_hashCode_2 1 = .ok (.iload_n 3, 1) := dk_29 (dk_at dksJ13_hashCode_2_0 1 rfl rfl)
theorem dJ13_hashCode_2_2 : decode cJ13_hashCode_2 2 = .ok (.iadd, 1) := dk_96 (dk_at dksJ13_hashCode_2_0 2 rfl rfl)
theorem dJ13_hashCode_2_3 : decode cJ13_hashCode_2 3 = .ok (.istore 4, 2) := dk_54 4 (dk_at dksJ13_hashCode_2_0 3 rfl rfl)
theorem dJ13_hashCode_2_5 : decode cJ13_hashCode_2 5 = .ok (.iload_n 2, 1) := dk_28 (dk_at dksJ13_hashCode_2_0 5 rfl rfl)
theorem dJ13_hashCode_2_6 : decode cJ13_hashCode_2 6 = .ok (.istore 5, 2) := dk_54 5 (dk_at dksJ13_hashCode_2_0 6 rfl rfl)
theorem dJ13_hashCode_2_8 : decode cJ13_hashCode_2 8 = .ok (.iload 5, 2) := dk_21 5 (dk_at dksJ13_hashCode_2_0 8 rfl rfl)
theorem dJ13_hashCode_2_10 : decode cJ13_hashCode_2 10 = .ok (.iload 4, 2) := dk_21 4 (dk_at dksJ13_hashCode_2_0 10 rfl rfl)
theorem dJ13_hashCode_2_12 : decode cJ13_hashCode_2 12 = .ok (.if_icmp .ge 19, 3) := dk_162 0 19 (dk_at dksJ13_hashCode_2_0 12 rfl rfl)
theorem dJ13_hashCode_2_15 : decode cJ13_hashCode_2 15 = .ok (.bipush 31, 2) := dk_16 31 (dk_at dksJ13_hashCode_2_0 15 rfl rfl)
theorem dJ13_hashCode_2_17 : decode cJ13_hashCode_2 17 = .ok (.iload_n 0, 1) := dk_26 (dk_at dksJ13_hashCode_2_0 17 rfl rfl)
theorem dJ13_hashCode_2_18 : decode cJ13_hashCode_2 18 = .ok (.imul, 1) := dk_104 (dk_at dksJ13_hashCode_2_0 18 rfl rfl)
theorem dJ13_hashCode_2_19 : decode cJ13_hashCode_2 19 = .ok (.aload_n 1, 1) := dk_43 (dk_at dksJ13_hashCode_2_0 19 rfl rfl)
theorem dJ13_hashCode_2_20 : decode cJ13_hashCode_2 20 = .ok (.iload 5, 2) := dk_21 5 (dk_at dksJ13_hashCode_2_0 20 rfl rfl)
theorem dJ13_hashCode_2_22 : decode cJ13_hashCode_2 22 = .ok (.baload, 1) := dk_51 (dk_at dksJ13_hashCode_2_0 22 rfl rfl)
theorem dJ13_hashCode_2_23 : decode cJ13_hashCode_2 23 = .ok (.iadd, 1) := dk_96 (dk_at dksJ13_hashCode_2_0 23 rfl rfl)
theorem dJ13_hashCode_2_24 : decode cJ13_hashCode_2 24 = .ok (.istore_n 0, 1) := dk_59 (dk_at dksJ13_hashCode_2_1 0 rfl rfl)
theorem dJ13_hashCode_2_25 : decode cJ13_hashCode_2 25 = .ok (.iinc 5 1, 3) := dk_132 5 1 (dk_at dksJ13_hashCode_2_1 1 rfl rfl)
theorem dJ13_hashCode_2_28 : decode cJ13_hashCode_2 28 = .ok (.goto (-20), 3) := dk_167 255 236 (dk_at dksJ13_hashCode_2_1 4 rfl rfl)
theorem dJ13_hashCode_2_31 : decode cJ13_hashCode_2 31 = .ok (.iload_n 0, 1) := dk_26 (dk_at dksJ13_hashCode_2_1 7 rfl rfl)
theorem dJ13_hashCode_2_32 : decode cJ13_hashCode_2 32 = .ok (.ireturn, 1) := dk_172 (dk_at dksJ13_hashCode_2_1 8 rfl rfl)
/-- jdk/internal/util/ArraysSupport.hashCode(I[BII)I -/
def zb403 (G : zPg) (C : zO) (args : List Value) (Q : zQ) (Y : zY) (σ : zS) : Prop := ∃ (x1 : Int32) (x2 : Option Nat) (x3 : Int32) (x4 : Int32), args = [.int x1, va_rf x2, .int x3, .int x4] ∧ (∃ n, zIt (fun _ _ _ => False) (fun rec4 (p1 : Int32) (p2 : Int32) (s3 : zS) => (((x3 + x4) ≤ p2) → Q (some (.int p1)) s3) ∧ ((¬ (x3 + x4) ≤ p2) → zaI s3 2 x2 p2 (fun v12 => (∀ v14 : Int32, v14 = p2 + (1 : Int32) → rec4 (((31 : Int32) * p1) + v12) v14 s3)))) n x1 x3 σ)
set_option maxHeartbeats 4000000 in
theorem wk403 {l : Launch} {g : zG} {d : Nat} {C : zO} (hG : zGk g) (hC : zSound l g d C) {args : List Value} {Q : zQ} {Y : zY} {σ : zS} (hw : zb403 (zpg g) C args Q Y σ) : zMet l g (d + 1) (⟨"jdk/internal/util/ArraysSupport", "hashCode", "(I[BII)I"⟩, Cond.code ⟨"jdk/internal/util/ArraysSupport", "hashCode", "(I[BII)I"⟩ prog_73_method_6_code 6 (Option.some FieldType.int)) args σ Q Y := by
  obtain ⟨x1, x2, x3, x4, rfl, hw⟩ := hw
  refine zof hG (by decide +kernel) [false, false, false, false] ⟨rfl, (zc_rf _), rfl, rfl, trivial⟩ (Nat.le_of_ble_eq_true rfl) (ls := [some (.int x1), some (va_rf x2), some (.int x3), some (.int x4), none, none]) rfl ?_
  intro X hX hR hTb hd1 hd2 hl hg hnm
  subst hl
  subst hg
  have hd : zDep X d := ⟨hd1, hd2⟩
  refine z_iload_n hX dJ13_hashCode_2_0 rfl (i := 2) rfl ?_
  refine z_iload_n hX dJ13_hashCode_2_1 rfl (i := 3) rfl ?_
  refine z_iadd hX dJ13_hashCode_2_2 ?_
  refine z_istore hX dJ13_hashCode_2_3 (i := 4) (Nat.le_of_ble_eq_true rfl) rfl (ls2 := [some (.int x1), some (va_rf x2), some (.int x3), some (.int x4), some (.int (x3 + x4)), none]) rfl ?_
  refine z_iload_n hX dJ13_hashCode_2_5 rfl (i := 2) rfl ?_
  refine z_istore hX dJ13_hashCode_2_6 (i := 5) (Nat.le_of_ble_eq_true rfl) rfl (ls2 := [some (.int x1), some (va_rf x2), some (.int x3), some (.int x4), some (.int (x3 + x4)), some (.int x3)]) rfl ?_
  obtain ⟨n16, hw⟩ := hw
  refine z_sub (ls' := [some (.int x1), some (va_rf x2), none, none, some (.int (x3 + x4)), some (.int x3)]) (zsS (zsS (zsN (zsN (zsS (zsS (zs0))))))) ?_
  refine zIt_w (P := fun (j : Int32 → Int32 → zS → Prop) => ∀ (p1 : Int32) (p2 : Int32) (s3 : zS), j p1 p2 s3 → zW X s3 8 [some (.int p1), some (va_rf x2), none, none, some (.int (x3 + x4)), some (.int p2)] []) (fun _ _ _ h => h.elim) (fun rec4 hrec4 p1 p2 s3 hw => ?_) n16 _ _ _ hw
  refine z_iload hX dJ13_hashCode_2_8 (i := 5) rfl ?_
  refine z_iload hX dJ13_hashCode_2_10 (i := 4) rfl ?_
  refine z_icmp_ge hX dJ13_hashCode_2_12 (tgt := 31) rfl (fun c5 => ?_) (fun c5 => ?_)
  · have hw := hw.1 c5
    refine z_iload_n hX dJ13_hashCode_2_31 rfl (i := 0) rfl ?_
    exact z_ireturn hX hR dJ13_hashCode_2_32 rfl hw
  · have hw := hw.2 c5
    refine z_bipush hX (v := (31 : Int32)) dJ13_hashCode_2_15 (by decide) ?_
    refine z_iload_n hX dJ13_hashCode_2_17 rfl (i := 0) rfl ?_
    refine z_imul hX dJ13_hashCode_2_18 ?_
    refine z_aload_n hX dJ13_hashCode_2_19 rfl (i := 1) rfl ?_
    refine z_iload hX dJ13_hashCode_2_20 (i := 5) rfl ?_
    obtain ⟨a6, n7, f8, r9, m10, i11, hw⟩ := hw
    refine z_bald hX dJ13_hashCode_2_22 r9 m10 i11 ?_
    revert hw
    generalize f8 (Int32.toNatClampNeg p2) = v12
    intro hw
    refine z_iadd hX dJ13_hashCode_2_23 ?_
    refine z_istore_n hX dJ13_hashCode_2_24 rfl (i := 0) (Nat.le_of_ble_eq_true rfl) trivial (ls2 := [some (.int (((31 : Int32) * p1) + v12)), some (va_rf x2), none, none, some (.int (x3 + x4)), some (.int p2)]) rfl ?_
    obtain ⟨v14, e15⟩ : ∃ y : Int32, y = p2 + (1 : Int32) := ⟨_, rfl⟩
    refine z_iinc hX dJ13_hashCode_2_25 (i := 5) (v := v14) rfl (by rw [e15]; rfl) (Nat.le_of_ble_eq_true rfl) rfl (ls2 := [some (.int (((31 : Int32) * p1) + v12)), some (va_rf x2), none, none, some (.int (x3 + x4)), some (.int v14)]) rfl ?_
    have hw := hw v14 e15
    refine z_goto hX dJ13_hashCode_2_28 (tgt := 8) rfl ?_
    exact hrec4 _ _ _ hw
abbrev cJ13_hashCode_3 : ByteArray := prog_73_method_8_code
def yJ13_hashCode_3 : MethodName := ⟨RJ13, "hashCode", "(I[SII)I"⟩
def dkwJ13_hashCode_3_1 : List UInt8 := [59, 132, 5, 1, 167, 255, 236, 26, 172]
abbrev dktJ13_hashCode_3_1 : List UInt8 := dkwJ13_hashCode_3_1 ++ []
def dkwJ13_hashCode_3_0 : List UInt8 := [28, 29, 96, 54, 4, 28, 54, 5, 21, 5, 21, 4, 162, 0, 19, 16, 31, 26, 104, 43, 21, 5, 53, 96]
abbrev dktJ13_hashCode_3_0 : List UInt8 := dkwJ13_hashCode_3_0 ++ dktJ13_hashCode_3_1
theorem dksJ13_hashCode_3_0 : cJ13_hashCode_3.data.toList.drop 0 = dktJ13_hashCode_3_0 := by decide +kernel
theorem dksJ13_hashCode_3_1 : cJ13_hashCode_3.data.toList.drop 24 = dktJ13_hashCode_3_1 := dk_seg dksJ13_hashCode_3_0 24 rfl rfl
theorem dJ13_hashCode_3_0 : decode cJ13_hashCode_3 0 = .ok (.iload_n 2, 1) := dk_28 (dk_at dksJ13_hashCode_3_0 0 rfl rfl)
theorem dJ13_hashCode_3_1 : decode cJ13_hashCode_3 1 = .ok (.iload_n 3, 1) := dk_29 (dk_at dksJ13_hashCode_3_0 1 rfl rfl)
theorem dJ13_hashCode_3_2 : decode cJ13_hashCode_3 2 = .ok (.iadd, 1) := dk_96 (dk_at dksJ13_hashCode_3_0 2 rfl rfl)
theorem dJ13_hashCode_3_3 : decode cJ13_hashCode_3 3 = .ok (.istore 4, 2) := dk_54 4 (dk_at dksJ13_hashCode_3_0 3 rfl rfl)
theorem dJ13_hashCode_3_5 : decode cJ13_hashCode_3 5 = .ok (.iload_n 2, 1) := dk_28 (dk_at dksJ13_hashCode_3_0 5 rfl rfl)
theorem dJ13_hashCode_3_6 : decode cJ13_hashCode_3 6 = .ok (.istore 5, 2) := dk_54 5 (dk_at dksJ13_hashCode_3_0 6 rfl rfl)
theorem dJ13_hashCode_3_8 : decode cJ13_hashCode_3 8 = .ok (.iload 5, 2) := dk_21 5 (dk_at dksJ13_hashCode_3_0 8 rfl rfl)
theorem dJ13_hashCode_3_10 : decode cJ13_hashCode_3 10 = .ok (.iload 4, 2) := dk_21 4 (dk_at dksJ13_hashCode_3_0 10 rfl rfl)
theorem dJ13_hashCode_3_12 : decode cJ13_hashCode_3 12 = .ok (.if_icmp .ge 19, 3) := dk_162 0 19 (dk_at dksJ13_hashCode_3_0 12 rfl rfl)
theorem dJ13_hashCode_3_15 : decode cJ13_hashCode_3 15 = .ok (.bipush 31, 2) := dk_16 31 (dk_at dksJ13_hashCode_3_0 15 rfl rfl)
theorem dJ13_hashCode_3_17 : decode cJ13_hashCode_3 17 = .ok (.iload_n 0, 1) := dk_26 (dk_at dksJ13_hashCode_3_0 17 rfl rfl)
theorem dJ13_hashCode_3_18 : decode cJ13_hashCode_3 18 = .ok (.imul, 1) := dk_104 (dk_at dksJ13_hashCode_3_0 18 rfl rfl)
theorem dJ13_hashCode_3_19 : decode cJ13_hashCode_3 19 = .ok (.aload_n 1, 1) := dk_43 (dk_at dksJ13_hashCode_3_0 19 rfl rfl)
theorem dJ13_hashCode_3_20 : decode cJ13_hashCode_3 20 = .ok (.iload 5, 2) := dk_21 5 (dk_at dksJ13_hashCode_3_0 20 rfl rfl)
theorem dJ13_hashCode_3_22 : decode cJ13_hashCode_3 22 = .ok (.saload, 1) := dk_53 (dk_at dksJ13_hashCode_3_0 22 rfl rfl)
theorem dJ13_hashCode_3_23 : decode cJ13_hashCode_3 23 = .ok (.iadd, 1) := dk_96 (dk_at dksJ13_hashCode_3_0 23 rfl rfl)
theorem dJ13_hashCode_3_24 : decode cJ13_hashCode_3 24 = .ok (.istore_n 0, 1) := dk_59 (dk_at dksJ13_hashCode_3_1 0 rfl rfl)
theorem dJ13_hashCode_3_25 : decode cJ13_hashCode_3 25 = .ok (.iinc 5 1, 3) := dk_132 5 1 (dk_at dksJ13_hashCode_3_1 1 rfl rfl)
theorem dJ13_hashCode_3_28 : decode cJ13_hashCode_3 28 = .ok (.goto (-20), 3) := dk_167 255 236 (dk_at dksJ13_hashCode_3_1 4 rfl rfl)
theorem dJ13_hashCode_3_31 : decode cJ13_hashCode_3 31 = .ok (.iload_n 0, 1) := dk_26 (dk_at dksJ13_hashCode_3_1 7 rfl rfl)
theorem dJ13_hashCode_3_32 : decode cJ13_hashCode_3 32 = .ok (.ireturn, 1) := dk_172 (dk_at dksJ13_hashCode_3_1 8 rfl rfl)
/-- jdk/internal/util/ArraysSupport.hashCode(I[SII)I -/
def zb404 (G : zPg) (C : zO) (args : List Value) (Q : zQ) (Y : zY) (σ : zS) : Prop := ∃ (x1 : Int32) (x2 : Option Nat) (x3 : Int32) (x4 : Int32), args = [.int x1, va_rf x2, .int x3, .int x4] ∧ ((((x3 + x4) ≤ x3) → Q (some (.int x1)) σ) ∧ ((¬ (x3 + x4) ≤ x3) → False))
set_option maxHeartbeats 4000000 in
theorem wk404 {l : Launch} {g : zG} {d : Nat} {C : zO} (hG : zGk g) (hC : zSound l g d C) {args : List Value} {Q : zQ} {Y : zY} {σ : zS} (hw : zb404 (zpg g) C args Q Y σ) : zMet l g (d + 1) (⟨"jdk/internal/util/ArraysSupport", "hashCode", "(I[SII)I"⟩, Cond.code ⟨"jdk/internal/util/ArraysSupport", "hashCode", "(I[SII)I"⟩ prog_73_method_8_code 6 (Option.some FieldType.int)) args σ Q Y := by
  obtain ⟨x1, x2, x3, x4, rfl, hw⟩ := hw
  refine zof hG (by decide +kernel) [false, false, false, false] ⟨rfl, (zc_rf _), rfl, rfl, trivial⟩ (Nat.le_of_ble_eq_true rfl) (ls := [some (.int x1), some (va_rf x2), some (.int x3), some (.int x4), none, none]) rfl ?_
  intro X hX hR hTb hd1 hd2 hl hg hnm
  subst hl
  subst hg
  have hd : zDep X d := ⟨hd1, hd2⟩
  refine z_iload_n hX dJ13_hashCode_3_0 rfl (i := 2) rfl ?_
  refine z_iload_n hX dJ13_hashCode_3_1 rfl (i := 3) rfl ?_
  refine z_iadd hX dJ13_hashCode_3_2 ?_
  refine z_istore hX dJ13_hashCode_3_3 (i := 4) (Nat.le_of_ble_eq_true rfl) rfl (ls2 := [some (.int x1), some (va_rf x2), some (.int x3), some (.int x4), some (.int (x3 + x4)), none]) rfl ?_
  refine z_iload_n hX dJ13_hashCode_3_5 rfl (i := 2) rfl ?_
  refine z_istore hX dJ13_hashCode_3_6 (i := 5) (Nat.le_of_ble_eq_true rfl) rfl (ls2 := [some (.int x1), some (va_rf x2), some (.int x3), some (.int x4), some (.int (x3 + x4)), some (.int x3)]) rfl ?_
  refine z_iload hX dJ13_hashCode_3_8 (i := 5) rfl ?_
  refine z_iload hX dJ13_hashCode_3_10 (i := 4) rfl ?_
  refine z_icmp_ge hX dJ13_hashCode_3_12 (tgt := 31) rfl (fun c1 => ?_) (fun c1 => ?_)
  · have hw := hw.1 c1
    refine z_iload_n hX dJ13_hashCode_3_31 rfl (i := 0) rfl ?_
    exact z_ireturn hX hR dJ13_hashCode_3_32 rfl hw
  · have hw := hw.2 c1
    refine z_bipush hX (v := (31 : Int32)) dJ13_hashCode_3_15 (by decide) ?_
    refine z_iload_n hX dJ13_hashCode_3_17 rfl (i := 0) rfl ?_
    refine z_imul hX dJ13_hashCode_3_18 ?_
    refine z_aload_n hX dJ13_hashCode_3_19 rfl (i := 1) rfl ?_
    refine z_iload hX dJ13_hashCode_3_20 (i := 5) rfl ?_
    exact hw.elim
abbrev cJ13_hashCode_4 : ByteArray := prog_73_method_9_code
def yJ13_hashCode_4 : MethodName := ⟨RJ13, "hashCode", "(I[III)I"⟩
def dkwJ13_hashCode_4_1 : List UInt8 := [59, 132, 5, 1, 167, 255, 236, 26, 172]
abbrev dktJ13_hashCode_4_1 : List UInt8 := dkwJ13_hashCode_4_1 ++ []
def dkwJ13_hashCode_4_0 : List UInt8 := [28, 29, 96, 54, 4, 28, 54, 5, 21, 5, 21, 4, 162, 0, 19, 16, 31, 26, 104, 43, 21, 5, 46, 96]
abbrev dktJ13_hashCode_4_0 : List UInt8 := dkwJ13_hashCode_4_0 ++ dktJ13_hashCode_4_1
theorem dksJ13_hashCode_4_0 : cJ13_hashCode_4.data.toList.drop 0 = dktJ13_hashCode_4_0 := by decide +kernel
theorem dksJ13_hashCode_4_1 : cJ13_hashCode_4.data.toList.drop 24 = dktJ13_hashCode_4_1 := dk_seg dksJ13_hashCode_4_0 24 rfl rfl
theorem dJ13_hashCode_4_0 : decode cJ13_hashCode_4 0 = .ok (.iload_n 2, 1) := dk_28 (dk_at dksJ13_hashCode_4_0 0 rfl rfl)
theorem dJ13_hashCode_4_1 : decode cJ13_hashCode_4 1 = .ok (.iload_n 3, 1) := dk_29 (dk_at dksJ13_hashCode_4_0 1 rfl rfl)
theorem dJ13_hashCode_4_2 : decode cJ13_hashCode_4 2 = .ok (.iadd, 1) := dk_96 (dk_at dksJ13_hashCode_4_0 2 rfl rfl)
theorem dJ13_hashCode_4_3 : decode cJ13_hashCode_4 3 = .ok (.istore 4, 2) := dk_54 4 (dk_at dksJ13_hashCode_4_0 3 rfl rfl)
theorem dJ13_hashCode_4_5 : decode cJ13_hashCode_4 5 = .ok (.iload_n 2, 1) := dk_28 (dk_at dksJ13_hashCode_4_0 5 rfl rfl)
theorem dJ13_hashCode_4_6 : decode cJ13_hashCode_4 6 = .ok (.istore 5, 2) := dk_54 5 (dk_at dksJ13_hashCode_4_0 6 rfl rfl)
theorem dJ13_hashCode_4_8 : decode cJ13_hashCode_4 8 = .ok (.iload 5, 2) := dk_21 5 (dk_at dksJ13_hashCode_4_0 8 rfl rfl)
theorem dJ13_hashCode_4_10 : decode cJ13_hashCode_4 10 = .ok (.iload 4, 2) := dk_21 4 (dk_at dksJ13_hashCode_4_0 10 rfl rfl)
theorem dJ13_hashCode_4_12 : decode cJ13_hashCode_4 12 = .ok (.if_icmp .ge 19, 3) := dk_162 0 19 (dk_at dksJ13_hashCode_4_0 12 rfl rfl)
theorem dJ13_hashCode_4_15 : decode cJ13_hashCode_4 15 = .ok (.bipush 31, 2) := dk_16 31 (dk_at dksJ13_hashCode_4_0 15 rfl rfl)
theorem dJ13_hashCode_4_17 : decode cJ13_hashCode_4 17 = .ok (.iload_n 0, 1) := dk_26 (dk_at dksJ13_hashCode_4_0 17 rfl rfl)
theorem dJ13_hashCode_4_18 : decode cJ13_hashCode_4 18 = .ok (.imul, 1) := dk_104 (dk_at dksJ13_hashCode_4_0 18 rfl rfl)
theorem dJ13_hashCode_4_19 : decode cJ13_hashCode_4 19 = .ok (.aload_n 1, 1) := dk_43 (dk_at dksJ13_hashCode_4_0 19 rfl rfl)
theorem dJ13_hashCode_4_20 : decode cJ13_hashCode_4 20 = .ok (.iload 5, 2) := dk_21 5 (dk_at dksJ13_hashCode_4_0 20 rfl rfl)
theorem dJ13_hashCode_4_22 : decode cJ13_hashCode_4 22 = .ok (.iaload, 1) := dk_46 (dk_at dksJ13_hashCode_4_0 22 rfl rfl)
theorem dJ13_hashCode_4_23 : decode cJ13_hashCode_4 23 = .ok (.iadd, 1) := dk_96 (dk_at dksJ13_hashCode_4_0 23 rfl rfl)
theorem dJ13_hashCode_4_24 : decode cJ13_hashCode_4 24 = .ok (.istore_n 0, 1) := dk_59 (dk_at dksJ13_hashCode_4_1 0 rfl rfl)
theorem dJ13_hashCode_4_25 : decode cJ13_hashCode_4 25 = .ok (.iinc 5 1, 3) := dk_132 5 1 (dk_at dksJ13_hashCode_4_1 1 rfl rfl)
theorem dJ13_hashCode_4_28 : decode cJ13_hashCode_4 28 = .ok (.goto (-20), 3) := dk_167 255 236 (dk_at dksJ13_hashCode_4_1 4 rfl rfl)
theorem dJ13_hashCode_4_31 : decode cJ13_hashCode_4 31 = .ok (.iload_n 0, 1) := dk_26 (dk_at dksJ13_hashCode_4_1 7 rfl rfl)
theorem dJ13_hashCode_4_32 : decode cJ13_hashCode_4 32 = .ok (.ireturn, 1) := dk_172 (dk_at dksJ13_hashCode_4_1 8 rfl rfl)
/-- jdk/internal/util/ArraysSupport.hashCode(I[III)I -/
def zb405 (G : zPg) (C : zO) (args : List Value) (Q : zQ) (Y : zY) (σ : zS) : Prop := ∃ (x1 : Int32) (x2 : Option Nat) (x3 : Int32) (x4 : Int32), args = [.int x1, va_rf x2, .int x3, .int x4] ∧ (∃ n, zIt (fun _ _ _ => False) (fun rec4 (p1 : Int32) (p2 : Int32) (s3 : zS) => (((x3 + x4) ≤ p2) → Q (some (.int p1)) s3) ∧ ((¬ (x3 + x4) ≤ p2) → zaI s3 0 x2 p2 (fun v12 => (∀ v14 : Int32, v14 = p2 + (1 : Int32) → rec4 (((31 : Int32) * p1) + v12) v14 s3)))) n x1 x3 σ)
set_option maxHeartbeats 4000000 in
theorem wk405 {l : Launch} {g : zG} {d : Nat} {C : zO} (hG : zGk g) (hC : zSound l g d C) {args : List Value} {Q : zQ} {Y : zY} {σ : zS} (hw : zb405 (zpg g) C args Q Y σ) : zMet l g (d + 1) (⟨"jdk/internal/util/ArraysSupport", "hashCode", "(I[III)I"⟩, Cond.code ⟨"jdk/internal/util/ArraysSupport", "hashCode", "(I[III)I"⟩ prog_73_method_9_code 6 (Option.some FieldType.int)) args σ Q Y := by
  obtain ⟨x1, x2, x3, x4, rfl, hw⟩ := hw
  refine zof hG (by decide +kernel) [false, false, false, false] ⟨rfl, (zc_rf _), rfl, rfl, trivial⟩ (Nat.le_of_ble_eq_true rfl) (ls := [some (.int x1), some (va_rf x2), some (.int x3), some (.int x4), none, none]) rfl ?_
  intro X hX hR hTb hd1 hd2 hl hg hnm
  subst hl
  subst hg
  have hd : zDep X d := ⟨hd1, hd2⟩
  refine z_iload_n hX dJ13_hashCode_4_0 rfl (i := 2) rfl ?_
  refine z_iload_n hX dJ13_hashCode_4_1 rfl (i := 3) rfl ?_
  refine z_iadd hX dJ13_hashCode_4_2 ?_
  refine z_istore hX dJ13_hashCode_4_3 (i := 4) (Nat.le_of_ble_eq_true rfl) rfl (ls2 := [some (.int x1), some (va_rf x2), some (.int x3), some (.int x4), some (.int (x3 + x4)), none]) rfl ?_
  refine z_iload_n hX dJ13_hashCode_4_5 rfl (i := 2) rfl ?_
  refine z_istore hX dJ13_hashCode_4_6 (i := 5) (Nat.le_of_ble_eq_true rfl) rfl (ls2 := [some (.int x1), some (va_rf x2), some (.int x3), some (.int x4), some (.int (x3 + x4)), some (.int x3)]) rfl ?_
  obtain ⟨n16, hw⟩ := hw
  refine z_sub (ls' := [some (.int x1), some (va_rf x2), none, none, some (.int (x3 + x4)), some (.int x3)]) (zsS (zsS (zsN (zsN (zsS (zsS (zs0))))))) ?_
  refine zIt_w (P := fun (j : Int32 → Int32 → zS → Prop) => ∀ (p1 : Int32) (p2 : Int32) (s3 : zS), j p1 p2 s3 → zW X s3 8 [some (.int p1), some (va_rf x2), none, none, some (.int (x3 + x4)), some (.int p2)] []) (fun _ _ _ h => h.elim) (fun rec4 hrec4 p1 p2 s3 hw => ?_) n16 _ _ _ hw
  refine z_iload hX dJ13_hashCode_4_8 (i := 5) rfl ?_
  refine z_iload hX dJ13_hashCode_4_10 (i := 4) rfl ?_
  refine z_icmp_ge hX dJ13_hashCode_4_12 (tgt := 31) rfl (fun c5 => ?_) (fun c5 => ?_)
  · have hw := hw.1 c5
    refine z_iload_n hX dJ13_hashCode_4_31 rfl (i := 0) rfl ?_
    exact z_ireturn hX hR dJ13_hashCode_4_32 rfl hw
  · have hw := hw.2 c5
    refine z_bipush hX (v := (31 : Int32)) dJ13_hashCode_4_15 (by decide) ?_
    refine z_iload_n hX dJ13_hashCode_4_17 rfl (i := 0) rfl ?_
    refine z_imul hX dJ13_hashCode_4_18 ?_
    refine z_aload_n hX dJ13_hashCode_4_19 rfl (i := 1) rfl ?_
    refine z_iload hX dJ13_hashCode_4_20 (i := 5) rfl ?_
    obtain ⟨a6, n7, f8, r9, m10, i11, hw⟩ := hw
    refine z_iald hX dJ13_hashCode_4_22 r9 m10 i11 ?_
    revert hw
    generalize f8 (Int32.toNatClampNeg p2) = v12
    intro hw
    refine z_iadd hX dJ13_hashCode_4_23 ?_
    refine z_istore_n hX dJ13_hashCode_4_24 rfl (i := 0) (Nat.le_of_ble_eq_true rfl) trivial (ls2 := [some (.int (((31 : Int32) * p1) + v12)), some (va_rf x2), none, none, some (.int (x3 + x4)), some (.int p2)]) rfl ?_
    obtain ⟨v14, e15⟩ : ∃ y : Int32, y = p2 + (1 : Int32) := ⟨_, rfl⟩
    refine z_iinc hX dJ13_hashCode_4_25 (i := 5) (v := v14) rfl (by rw [e15]; rfl) (Nat.le_of_ble_eq_true rfl) rfl (ls2 := [some (.int (((31 : Int32) * p1) + v12)), some (va_rf x2), none, none, some (.int (x3 + x4)), some (.int v14)]) rfl ?_
    have hw := hw v14 e15
    refine z_goto hX dJ13_hashCode_4_28 (tgt := 8) rfl ?_
    exact hrec4 _ _ _ hw
def RJ14 : String := "java/util/Arrays"
abbrev cJ14_copyOf : ByteArray := prog_59_method_119_code
def yJ14_copyOf : MethodName := ⟨RJ14, "copyOf", "([Ljava/lang/Object;I)[Ljava/lang/Object;"⟩
def dkwJ14_copyOf_0 : List UInt8 := [42, 27, 42, 182, 0, 86, 184, 1, 44, 176]
abbrev dktJ14_copyOf_0 : List UInt8 := dkwJ14_copyOf_0 ++ []
theorem dksJ14_copyOf_0 : cJ14_copyOf.data.toList.drop 0 = dktJ14_copyOf_0 := by decide +kernel
theorem dJ14_copyOf_0 : decode cJ14_copyOf 0 = .ok (.aload_n 0, 1) := dk_42 (dk_at dksJ14_copyOf_0 0 rfl rfl)
theorem dJ14_copyOf_1 : decode cJ14_copyOf 1 = .ok (.iload_n 1, 1) := dk_27 (dk_at dksJ14_copyOf_0 1 rfl rfl)
theorem dJ14_copyOf_2 : decode cJ14_copyOf 2 = .ok (.aload_n 0, 1) := dk_42 (dk_at dksJ14_copyOf_0 2 rfl rfl)
theorem dJ14_copyOf_3 : decode cJ14_copyOf 3 = .ok (.invokevirtual 86, 3) := dk_182 0 86 (dk_at dksJ14_copyOf_0 3 rfl rfl)
theorem dJ14_copyOf_6 : decode cJ14_copyOf 6 = .ok (.invokestatic 300, 3) := dk_184 1 44 (dk_at dksJ14_copyOf_0 6 rfl rfl)
theorem dJ14_copyOf_9 : decode cJ14_copyOf 9 = .ok (.areturn, 1) := dk_176 (dk_at dksJ14_copyOf_0 9 rfl rfl)
/-- java/util/Arrays.copyOf([Ljava/lang/Object;I)[Ljava/lang/Object; -/
def zb406 (G : zPg) (C : zO) (args : List Value) (Q : zQ) (Y : zY) (σ : zS) : Prop := ∃ (x1 : Option Nat) (x2 : Int32), args = [va_rf x1, .int x2] ∧ ((∃ a1 n2, x1 = some a1 ∧ G.1 ≤ a1 ∧ σ.1 a1 = some (.inl (4, n2)) ∧ zcl C 407 [va_rf x1, .int x2, va_rf (some (G.2 58))] Y σ (zqR (fun v6 s7 => Q (some (va_rf v6)) s7))))
set_option maxHeartbeats 4000000 in
theorem wk406 {l : Launch} {g : zG} {d : Nat} {C : zO} (hG : zGk g) (hC : zSound l g d C) {args : List Value} {Q : zQ} {Y : zY} {σ : zS} (hw : zb406 (zpg g) C args Q Y σ) : zMet l g (d + 1) (⟨"java/util/Arrays", "copyOf", "([Ljava/lang/Object;I)[Ljava/lang/Object;"⟩, Cond.code ⟨"java/util/Arrays", "copyOf", "([Ljava/lang/Object;I)[Ljava/lang/Object;"⟩ prog_59_method_119_code 2 (Option.some (FieldType.array (FieldType.object "java/lang/Object")))) args σ Q Y := by
  obtain ⟨x1, x2, rfl, hw⟩ := hw
  refine zof hG (by decide +kernel) [false, false] ⟨(zc_rf _), rfl, trivial⟩ (Nat.le_of_ble_eq_true rfl) (ls := [some (va_rf x1), some (.int x2)]) rfl ?_
  intro X hX hR hTb hd1 hd2 hl hg hnm
  subst hl
  subst hg
  have hd : zDep X d := ⟨hd1, hd2⟩
  refine z_aload_n hX dJ14_copyOf_0 rfl (i := 0) rfl ?_
  refine z_iload_n hX dJ14_copyOf_1 rfl (i := 1) rfl ?_
  refine z_aload_n hX dJ14_copyOf_2 rfl (i := 0) rfl ?_
  obtain ⟨a1, n2, r3, g4, m5, hw⟩ := hw
  refine z_getC hX hd dJ14_copyOf_3 q791 q3220 q3219 q792 q826 r3 g4 m5 rfl (zcs8 (Nat.le_of_ble_eq_true rfl)) ?_
  refine z_invS hX hd dJ14_copyOf_6 (hC 407 _ zm407 _ _ _ _ hw) q827 q828 zh20 q829 q149 zn407 rfl (Nat.le_of_ble_eq_true rfl) (st := []) rfl (zcs8 (Nat.le_of_ble_eq_true rfl)) rfl (zkR (fun v6 s7 hw => ?_)) (zout hX hR hTb)
  exact z_areturn hX hR dJ14_copyOf_9 (Or.inr ⟨_, rfl⟩) hw
abbrev cJ14_copyOf_2 : ByteArray := prog_59_method_120_code
def yJ14_copyOf_2 : MethodName := ⟨RJ14, "copyOf", "([Ljava/lang/Object;ILjava/lang/Class;)[Ljava/lang/Object;"⟩
def dkwJ14_copyOf_2_1 : List UInt8 := [78, 42, 3, 45, 3, 42, 190, 27, 184, 1, 48, 184, 0, 150, 45, 176]
abbrev dktJ14_copyOf_2_1 : List UInt8 := dkwJ14_copyOf_2_1 ++ []
def dkwJ14_copyOf_2_0 : List UInt8 := [44, 18, 110, 166, 0, 10, 27, 189, 0, 2, 167, 0, 14, 44, 182, 0, 90, 27, 184, 0, 95, 192, 0, 110]
abbrev dktJ14_copyOf_2_0 : List UInt8 := dkwJ14_copyOf_2_0 ++ dktJ14_copyOf_2_1
theorem dksJ14_copyOf_2_0 : cJ14_copyOf_2.data.toList.drop 0 = dktJ14_copyOf_2_0 := by decide +kernel
theorem dksJ14_copyOf_2_1 : cJ14_copyOf_2.data.toList.drop 24 = dktJ14_copyOf_2_1 := dk_seg dksJ14_copyOf_2_0 24 rfl rfl
theorem dJ14_copyOf_2_0 : decode cJ14_copyOf_2 0 = .ok (.aload_n 2, 1) := dk_44 (dk_at dksJ14_copyOf_2_0 0 rfl rfl)
theorem dJ14_copyOf_2_1 : decode cJ14_copyOf_2 1 = .ok (.ldc 110, 2) := dk_18 110 (dk_at dksJ14_copyOf_2_0 1 rfl rfl)
theorem dJ14_copyOf_2_3 : decode cJ14_copyOf_2 3 = .ok (.if_acmp .ne 10, 3) := dk_166 0 10 (dk_at dksJ14_copyOf_2_0 3 rfl rfl)
theorem dJ14_copyOf_2_6 : decode cJ14_copyOf_2 6 = .ok (.iload_n 1, 1) := dk_27 (dk_at dksJ14_copyOf_2_0 6 rfl rfl)
theorem dJ14_copyOf_2_7 : decode cJ14_copyOf_2 7 = .ok (.anewarray 2, 3) := dk_189 0 2 (dk_at dksJ14_copyOf_2_0 7 rfl rfl)
theorem dJ14_copyOf_2_10 : decode cJ14_copyOf_2 10 = .ok (.goto 14, 3) := dk_167 0 14 (dk_at dksJ14_copyOf_2_0 10 rfl rfl)
theorem dJ14_copyOf_2_13 : decode cJ14_copyOf_2 13 = .ok (.aload_n 2, 1) := dk_44 (dk_at dksJ14_copyOf_2_0 13 rfl rfl)
theorem dJ14_copyOf_2_14 : decode cJ14_copyOf_2 14 = .ok (.invokevirtual 90, 3) := dk_182 0 90 (dk_at dksJ14_copyOf_2_0 14 rfl rfl)
theorem dJ14_copyOf_2_17 : decode cJ14_copyOf_2 17 = .ok (.iload_n 1, 1) := dk_27 (dk_at dksJ14_copyOf_2_0 17 rfl rfl)
theorem dJ14_copyOf_2_18 : decode cJ14_copyOf_2 18 = .ok (.invokestatic 95, 3) := dk_184 0 95 (dk_at dksJ14_copyOf_2_0 18 rfl rfl)
theorem dJ14_copyOf_2_21 : decode cJ14_copyOf_2 21 = .ok (.checkcast 110, 3) := dk_192 0 110 (dk_at dksJ14_copyOf_2_0 21 rfl rfl)
theorem dJ14_copyOf_2_24 : decode cJ14_copyOf_2 24 = .ok (.astore_n 3, 1) := dk_78 (dk_at dksJ14_copyOf_2_1 0 rfl rfl)
theorem dJ14_copyOf_2_25 : decode cJ14_copyOf_2 25 = .ok (.aload_n 0, 1) := dk_42 (dk_at dksJ14_copyOf_2_1 1 rfl rfl)
theorem dJ14_copyOf_2_26 : decode cJ14_copyOf_2 26 = .ok (.iconst 0, 1) := dk_3 (dk_at dksJ14_copyOf_2_1 2 rfl rfl)
theorem dJ14_copyOf_2_27 : decode cJ14_copyOf_2 27 = .ok (.aload_n 3, 1) := dk_45 (dk_at dksJ14_copyOf_2_1 3 rfl rfl)
theorem dJ14_copyOf_2_28 : decode cJ14_copyOf_2 28 = .ok (.iconst 0, 1) := dk_3 (dk_at dksJ14_copyOf_2_1 4 rfl rfl)
theorem dJ14_copyOf_2_29 : decode cJ14_copyOf_2 29 = .ok (.aload_n 0, 1) := dk_42 (dk_at dksJ14_copyOf_2_1 5 rfl rfl)
theorem dJ14_copyOf_2_30 : decode cJ14_copyOf_2 30 = .ok (.arraylength, 1) := dk_190 (dk_at dksJ14_copyOf_2_1 6 rfl rfl)
theorem dJ14_copyOf_2_31 : decode cJ14_copyOf_2 31 = .ok (.iload_n 1, 1) := dk_27 (dk_at dksJ14_copyOf_2_1 7 rfl rfl)
theorem dJ14_copyOf_2_32 : decode cJ14_copyOf_2 32 = .ok (.invokestatic 304, 3) := dk_184 1 48 (dk_at dksJ14_copyOf_2_1 8 rfl rfl)
theorem dJ14_copyOf_2_35 : decode cJ14_copyOf_2 35 = .ok (.invokestatic 150, 3) := dk_184 0 150 (dk_at dksJ14_copyOf_2_1 11 rfl rfl)
theorem dJ14_copyOf_2_38 : decode cJ14_copyOf_2 38 = .ok (.aload_n 3, 1) := dk_45 (dk_at dksJ14_copyOf_2_1 14 rfl rfl)
theorem dJ14_copyOf_2_39 : decode cJ14_copyOf_2 39 = .ok (.areturn, 1) := dk_176 (dk_at dksJ14_copyOf_2_1 15 rfl rfl)
/-- java/util/Arrays.copyOf([Ljava/lang/Object;ILjava/lang/Class;)[Ljava/lang/Object; -/
def zb407 (G : zPg) (C : zO) (args : List Value) (Q : zQ) (Y : zY) (σ : zS) : Prop := ∃ (x1 : Option Nat) (x2 : Int32) (x3 : Option Nat), args = [va_rf x1, .int x2, va_rf x3] ∧ (((¬ x3 = (some (G.2 58))) → False) ∧ ((x3 = (some (G.2 58))) → znewA σ 4 x2 (.inr (.inr (.inr (.inr (fun _ => none))))) (fun s2 => zln s2 4 x1 (fun v9 => zcl C 295 [.int v9, .int x2] Y s2 (zqI (fun v11 s12 => zacp s12 G.1 4 [0, 1, 2, 3, 4, 5, 6, 7, 8, 9, 10, 11, 12, 13, 14, 15, 16, 17, 18, 19, 20, 21, 22, 23, 24, 25, 26, 27, 28, 29, 30] x1 (0 : Int32) (some σ.2.1) (0 : Int32) v11 (fun s14 => Q (some (va_rf (some σ.2.1))) s14)))))))
set_option maxHeartbeats 4000000 in
theorem wk407 {l : Launch} {g : zG} {d : Nat} {C : zO} (hG : zGk g) (hC : zSound l g d C) {args : List Value} {Q : zQ} {Y : zY} {σ : zS} (hw : zb407 (zpg g) C args Q Y σ) : zMet l g (d + 1) (⟨"java/util/Arrays", "copyOf", "([Ljava/lang/Object;ILjava/lang/Class;)[Ljava/lang/Object;"⟩, Cond.code ⟨"java/util/Arrays", "copyOf", "([Ljava/lang/Object;ILjava/lang/Class;)[Ljava/lang/Object;"⟩ prog_59_method_120_code 4 (Option.some (FieldType.array (FieldType.object "java/lang/Object")))) args σ Q Y := by
  obtain ⟨x1, x2, x3, rfl, hw⟩ := hw
  refine zof hG (by decide +kernel) [false, false, false] ⟨(zc_rf _), rfl, (zc_rf _), trivial⟩ (Nat.le_of_ble_eq_true rfl) (ls := [some (va_rf x1), some (.int x2), some (va_rf x3), none]) rfl ?_
  intro X hX hR hTb hd1 hd2 hl hg hnm
  subst hl
  subst hg
  have hd : zDep X d := ⟨hd1, hd2⟩
  refine z_aload_n hX dJ14_copyOf_2_0 rfl (i := 2) rfl ?_
  refine z_ldcM hX dJ14_copyOf_2_1 q830 ?_
  refine z_acmp_ne hX dJ14_copyOf_2_3 (tgt := 13) rfl (fun c1 => ?_) (fun c1 => ?_)
  · have hw := hw.1 c1
    refine z_aload_n hX dJ14_copyOf_2_13 rfl (i := 2) rfl ?_
    exact hw.elim
  · have hw := hw.2 c1
    refine z_iload_n hX dJ14_copyOf_2_6 rfl (i := 1) rfl ?_
    refine z_anew hX 4 dJ14_copyOf_2_7 q831 q295 rfl rfl hw.1 hw.2.1 hw.2.2.1 hw.2.2.2.1 (fun z3 => z_nm (fun s2 e4 => ?_))
    have hw := hw.2.2.2.2 z3 s2 e4
    refine z_goto hX dJ14_copyOf_2_10 (tgt := 24) rfl ?_
    refine z_astore_n hX dJ14_copyOf_2_24 rfl (i := 3) (Nat.le_of_ble_eq_true rfl) (zc_rf _) (ls2 := [some (va_rf x1), some (.int x2), some (va_rf x3), some (va_rf (some σ.2.1))]) rfl ?_
    refine z_aload_n hX dJ14_copyOf_2_25 rfl (i := 0) rfl ?_
    refine z_iconst hX (v := (0 : Int32)) dJ14_copyOf_2_26 (by decide) ?_
    refine z_aload_n hX dJ14_copyOf_2_27 rfl (i := 3) rfl ?_
    refine z_iconst hX (v := (0 : Int32)) dJ14_copyOf_2_28 (by decide) ?_
    refine z_aload_n hX dJ14_copyOf_2_29 rfl (i := 0) rfl ?_
    obtain ⟨a5, n6, r7, m8, hw⟩ := hw
    refine z_alen hX 4 dJ14_copyOf_2_30 r7 m8 ?_
    revert hw
    generalize nI n6.1 = v9
    intro hw
    refine z_iload_n hX dJ14_copyOf_2_31 rfl (i := 1) rfl ?_
    refine z_invS hX hd dJ14_copyOf_2_32 (hC 295 _ zm295 _ _ _ _ hw) q832 q479 zh8 q480 q137 zn295 rfl (Nat.le_of_ble_eq_true rfl) (st := [.int (0 : Int32), va_rf (some σ.2.1), .int (0 : Int32), va_rf x1]) rfl (zcs8 (Nat.le_of_ble_eq_true rfl)) rfl (zkI (fun v11 s12 hw => ?_)) (zout hX hR hTb)
    refine z_acp hX hd 4 dJ14_copyOf_2_35 q833 q835 q834 q150 (E := "java/lang/Object") (Or.inr ⟨rfl, rfl, (zfa1 ⟨_, rfl, Or.inr q3187⟩ (zfa1 ⟨_, rfl, Or.inr q3188⟩ (zfa1 ⟨_, rfl, Or.inr q3189⟩ (zfa1 ⟨_, rfl, Or.inr q3190⟩ (zfa1 ⟨_, rfl, Or.inr q3191⟩ (zfa1 ⟨_, rfl, Or.inr q3217⟩ (zfa1 ⟨_, rfl, Or.inr q3192⟩ (zfa1 ⟨_, rfl, Or.inr q3193⟩ (zfa1 ⟨_, rfl, Or.inr q3194⟩ (zfa1 ⟨_, rfl, Or.inr q3186⟩ (zfa1 ⟨_, rfl, Or.inr q3201⟩ (zfa1 ⟨_, rfl, Or.inr q3196⟩ (zfa1 ⟨_, rfl, Or.inr q3197⟩ (zfa1 ⟨_, rfl, Or.inr q3198⟩ (zfa1 ⟨_, rfl, Or.inr q3199⟩ (zfa1 ⟨_, rfl, Or.inr q3200⟩ (zfa1 ⟨_, rfl, Or.inr q3202⟩ (zfa1 ⟨_, rfl, Or.inr q3203⟩ (zfa1 ⟨_, rfl, Or.inr q3204⟩ (zfa1 ⟨_, rfl, Or.inr q3205⟩ (zfa1 ⟨_, rfl, Or.inr q3206⟩ (zfa1 ⟨_, rfl, Or.inr q3208⟩ (zfa1 ⟨_, rfl, Or.inr q3209⟩ (zfa1 ⟨_, rfl, Or.inr q3184⟩ (zfa1 ⟨_, rfl, Or.inr q3210⟩ (zfa1 ⟨_, rfl, Or.inr q3211⟩ (zfa1 ⟨_, rfl, Or.inr q3212⟩ (zfa1 ⟨_, rfl, Or.inr q3213⟩ (zfa1 ⟨_, rfl, Or.inr q3215⟩ (zfa1 ⟨_, rfl, Or.inr q3216⟩ (zfa1 ⟨_, rfl, Or.inl rfl⟩ (zfa0))))))))))))))))))))))))))))))))⟩) hw rfl (zcs8 (Nat.le_of_ble_eq_true rfl)) (fun s14 hw => ?_)
    refine z_aload_n hX dJ14_copyOf_2_38 rfl (i := 3) rfl ?_
    exact z_areturn hX hR dJ14_copyOf_2_39 (Or.inr ⟨_, rfl⟩) hw
abbrev cJ14_copyOf_3 : ByteArray := prog_59_method_121_code
def yJ14_copyOf_3 : MethodName := ⟨RJ14, "copyOf", "([BI)[B"⟩
def dkwJ14_copyOf_3_1 : List UInt8 := [27, 184, 1, 48, 184, 0, 150, 44, 176]
abbrev dktJ14_copyOf_3_1 : List UInt8 := dkwJ14_copyOf_3_1 ++ []
def dkwJ14_copyOf_3_0 : List UInt8 := [27, 42, 190, 160, 0, 11, 42, 182, 1, 54, 192, 1, 55, 176, 27, 188, 8, 77, 42, 3, 44, 3, 42, 190]
abbrev dktJ14_copyOf_3_0 : List UInt8 := dkwJ14_copyOf_3_0 ++ dktJ14_copyOf_3_1
theorem dksJ14_copyOf_3_0 : cJ14_copyOf_3.data.toList.drop 0 = dktJ14_copyOf_3_0 := by decide +kernel
theorem dksJ14_copyOf_3_1 : cJ14_copyOf_3.data.toList.drop 24 = dktJ14_copyOf_3_1 := dk_seg dksJ14_copyOf_3_0 24 rfl rfl
theorem dJ14_copyOf_3_0 : decode cJ14_copyOf_3 0 = .ok (.iload_n 1, 1) := dk_27 (dk_at dksJ14_copyOf_3_0 0 rfl rfl)
theorem dJ14_copyOf_3_1 : decode cJ14_copyOf_3 1 = .ok (.aload_n 0, 1) := dk_42 (dk_at dksJ14_copyOf_3_0 1 rfl rfl)
theorem dJ14_copyOf_3_2 : decode cJ14_copyOf_3 2 = .ok (.arraylength, 1) := dk_190 (dk_at dksJ14_copyOf_3_0 2 rfl rfl)
theorem dJ14_copyOf_3_3 : decode cJ14_copyOf_3 3 = .ok (.if_icmp .ne 11, 3) := dk_160 0 11 (dk_at dksJ14_copyOf_3_0 3 rfl rfl)
theorem dJ14_copyOf_3_6 : decode cJ14_copyOf_3 6 = .ok (.aload_n 0, 1) := dk_42 (dk_at dksJ14_copyOf_3_0 6 rfl rfl)
theorem dJ14_copyOf_3_7 : decode cJ14_copyOf_3 7 = .ok (.invokevirtual 310, 3) := dk_182 1 54 (dk_at dksJ14_copyOf_3_0 7 rfl rfl)
theorem dJ14_copyOf_3_10 : decode cJ14_copyOf_3 10 = .ok (.checkcast 311, 3) := dk_192 1 55 (dk_at dksJ14_copyOf_3_0 10 rfl rfl)
theorem dJ14_copyOf_3_13 : decode cJ14_copyOf_3 13 = .ok (.areturn, 1) := dk_176 (dk_at dksJ14_copyOf_3_0 13 rfl rfl)
theorem dJ14_copyOf_3_14 : decode cJ14_copyOf_3 14 = .ok (.iload_n 1, 1) := dk_27 (dk_at dksJ14_copyOf_3_0 14 rfl rfl)
theorem dJ14_copyOf_3_15 : decode cJ14_copyOf_3 15 = .ok (.newarray .byte, 2) := dk_188_8 (dk_at dksJ14_copyOf_3_0 15 rfl rfl)
theorem dJ14_copyOf_3_17 : decode cJ14_copyOf_3 17 = .ok (.astore_n 2, 1) := dk_77 (dk_at dksJ14_copyOf_3_0 17 rfl rfl)
theorem dJ14_copyOf_3_18 : decode cJ14_copyOf_3 18 = .ok (.aload_n 0, 1) := dk_42 (dk_at dksJ14_copyOf_3_0 18 rfl rfl)
theorem dJ14_copyOf_3_19 : decode cJ14_copyOf_3 19 = .ok (.iconst 0, 1) := dk_3 (dk_at dksJ14_copyOf_3_0 19 rfl rfl)
theorem dJ14_copyOf_3_20 : decode cJ14_copyOf_3 20 = .ok (.aload_n 2, 1) := dk_44 (dk_at dksJ14_copyOf_3_0 20 rfl rfl)
theorem dJ14_copyOf_3_21 : decode cJ14_copyOf_3 21 = .ok (.iconst 0, 1) := dk_3 (dk_at dksJ14_copyOf_3_0 21 rfl rfl)
theorem dJ14_copyOf_3_22 : decode cJ14_copyOf_3 22 = .ok (.aload_n 0, 1) := dk_42 (dk_at dksJ14_copyOf_3_0 22 rfl rfl)
theorem dJ14_copyOf_3_23 : decode cJ14_copyOf_3 23 = .ok (.arraylength, 1) := dk_190 (dk_at dksJ14_copyOf_3_0 23 rfl rfl)
theorem dJ14_copyOf_3_24 : decode cJ14_copyOf_3 24 = .ok (.iload_n 1, 1) := dk_27 (dk_at dksJ14_copyOf_3_1 0 rfl rfl)
theorem dJ14_copyOf_3_25 : decode cJ14_copyOf_3 25 = .ok (.invokestatic 304, 3) := dk_184 1 48 (dk_at dksJ14_copyOf_3_1 1 rfl rfl)
theorem dJ14_copyOf_3_28 : decode cJ14_copyOf_3 28 = .ok (.invokestatic 150, 3) := dk_184 0 150 (dk_at dksJ14_copyOf_3_1 4 rfl rfl)
theorem dJ14_copyOf_3_31 : decode cJ14_copyOf_3 31 = .ok (.aload_n 2, 1) := dk_44 (dk_at dksJ14_copyOf_3_1 7 rfl rfl)
theorem dJ14_copyOf_3_32 : decode cJ14_copyOf_3 32 = .ok (.areturn, 1) := dk_176 (dk_at dksJ14_copyOf_3_1 8 rfl rfl)
/-- java/util/Arrays.copyOf([BI)[B -/
def zb408 (G : zPg) (C : zO) (args : List Value) (Q : zQ) (Y : zY) (σ : zS) : Prop := ∃ (x1 : Option Nat) (x2 : Int32), args = [va_rf x1, .int x2] ∧ (zln σ 2 x1 (fun v5 => ((¬ x2 = v5) → znewA σ 2 x2 (.inl (fun _ => 0)) (fun s8 => zln s8 2 x1 (fun v15 => zcl C 295 [.int v15, .int x2] Y s8 (zqI (fun v17 s18 => zacp s18 G.1 2 [] x1 (0 : Int32) (some σ.2.1) (0 : Int32) v17 (fun s20 => Q (some (va_rf (some σ.2.1))) s20)))))) ∧ ((x2 = v5) → zclo σ G.1 2 x1 (fun s21 => (∃ a22 n23, (some σ.2.1) = some a22 ∧ G.1 ≤ a22 ∧ s21.1 a22 = some (.inl (2, n23)) ∧ Q (some (va_rf (some σ.2.1))) s21)))))
set_option maxHeartbeats 4000000 in
theorem wk408 {l : Launch} {g : zG} {d : Nat} {C : zO} (hG : zGk g) (hC : zSound l g d C) {args : List Value} {Q : zQ} {Y : zY} {σ : zS} (hw : zb408 (zpg g) C args Q Y σ) : zMet l g (d + 1) (⟨"java/util/Arrays", "copyOf", "([BI)[B"⟩, Cond.code ⟨"java/util/Arrays", "copyOf", "([BI)[B"⟩ prog_59_method_121_code 3 (Option.some (FieldType.array FieldType.byte))) args σ Q Y := by
  obtain ⟨x1, x2, rfl, hw⟩ := hw
  refine zof hG (by decide +kernel) [false, false] ⟨(zc_rf _), rfl, trivial⟩ (Nat.le_of_ble_eq_true rfl) (ls := [some (va_rf x1), some (.int x2), none]) rfl ?_
  intro X hX hR hTb hd1 hd2 hl hg hnm
  subst hl
  subst hg
  have hd : zDep X d := ⟨hd1, hd2⟩
  refine z_iload_n hX dJ14_copyOf_3_0 rfl (i := 1) rfl ?_
  refine z_aload_n hX dJ14_copyOf_3_1 rfl (i := 0) rfl ?_
  obtain ⟨a1, n2, r3, m4, hw⟩ := hw
  refine z_alen hX 2 dJ14_copyOf_3_2 r3 m4 ?_
  revert hw
  generalize nI n2.1 = v5
  intro hw
  refine z_icmp_ne hX dJ14_copyOf_3_3 (tgt := 14) rfl (fun c7 => ?_) (fun c7 => ?_)
  · have hw := hw.1 c7
    refine z_iload_n hX dJ14_copyOf_3_14 rfl (i := 1) rfl ?_
    refine z_newB hX dJ14_copyOf_3_15 q330 hw.1 hw.2.1 hw.2.2.1 hw.2.2.2.1 (fun z9 => z_nm (fun s8 e10 => ?_))
    have hw := hw.2.2.2.2 z9 s8 e10
    refine z_astore_n hX dJ14_copyOf_3_17 rfl (i := 2) (Nat.le_of_ble_eq_true rfl) rfl (ls2 := [some (va_rf x1), some (.int x2), some (va_rf (some σ.2.1))]) rfl ?_
    refine z_aload_n hX dJ14_copyOf_3_18 rfl (i := 0) rfl ?_
    refine z_iconst hX (v := (0 : Int32)) dJ14_copyOf_3_19 (by decide) ?_
    refine z_aload_n hX dJ14_copyOf_3_20 rfl (i := 2) rfl ?_
    refine z_iconst hX (v := (0 : Int32)) dJ14_copyOf_3_21 (by decide) ?_
    refine z_aload_n hX dJ14_copyOf_3_22 rfl (i := 0) rfl ?_
    obtain ⟨a11, n12, r13, m14, hw⟩ := hw
    refine z_alen hX 2 dJ14_copyOf_3_23 r13 m14 ?_
    revert hw
    generalize nI n12.1 = v15
    intro hw
    refine z_iload_n hX dJ14_copyOf_3_24 rfl (i := 1) rfl ?_
    refine z_invS hX hd dJ14_copyOf_3_25 (hC 295 _ zm295 _ _ _ _ hw) q832 q479 zh8 q480 q137 zn295 rfl (Nat.le_of_ble_eq_true rfl) (st := [.int (0 : Int32), va_rf (some σ.2.1), .int (0 : Int32), va_rf x1]) rfl (zcs8 (Nat.le_of_ble_eq_true rfl)) rfl (zkI (fun v17 s18 hw => ?_)) (zout hX hR hTb)
    refine z_acp hX hd 2 dJ14_copyOf_3_28 q833 q835 q834 q150 (E := "") (Or.inl rfl) hw rfl (zcs8 (Nat.le_of_ble_eq_true rfl)) (fun s20 hw => ?_)
    refine z_aload_n hX dJ14_copyOf_3_31 rfl (i := 2) rfl ?_
    exact z_areturn hX hR dJ14_copyOf_3_32 (Or.inr ⟨_, rfl⟩) hw
  · have hw := hw.2 c7
    refine z_aload_n hX dJ14_copyOf_3_6 rfl (i := 0) rfl ?_
    refine z_clo hX hd 2 (ad := "[B") dJ14_copyOf_3_7 q1155 q1156 q1157 q1158 q1159 q1160 rfl (fun _ _ h => h) hw rfl (zcs8 (Nat.le_of_ble_eq_true rfl)) (fun s21 hw => ?_)
    obtain ⟨a22, n23, r24, g25, m26, hw⟩ := hw
    refine z_castA hX 2 dJ14_copyOf_3_10 q1161 rfl (fun _ _ h => h) r24 g25 m26 ?_
    exact z_areturn hX hR dJ14_copyOf_3_13 (Or.inr ⟨_, rfl⟩) hw
abbrev cJ14_fill : ByteArray := prog_59_method_110_code
def yJ14_fill : MethodName := ⟨RJ14, "fill", "([BIIB)V"⟩
def dkwJ14_fill_1 : List UInt8 := [167, 255, 242, 177]
abbrev dktJ14_fill_1 : List UInt8 := dkwJ14_fill_1 ++ []
def dkwJ14_fill_0 : List UInt8 := [42, 190, 27, 28, 184, 0, 13, 27, 54, 4, 21, 4, 28, 162, 0, 14, 42, 21, 4, 29, 84, 132, 4, 1]
abbrev dktJ14_fill_0 : List UInt8 := dkwJ14_fill_0 ++ dktJ14_fill_1
theorem dksJ14_fill_0 : cJ14_fill.data.toList.drop 0 = dktJ14_fill_0 := by decide +kernel
theorem dksJ14_fill_1 : cJ14_fill.data.toList.drop 24 = dktJ14_fill_1 := dk_seg dksJ14_fill_0 24 rfl rfl
theorem dJ14_fill_0 : decode cJ14_fill 0 = .ok (.aload_n 0, 1) := dk_42 (dk_at dksJ14_fill_0 0 rfl rfl)
theorem dJ14_fill_1 : decode cJ14_fill 1 = .ok (.arraylength, 1) := dk_190 (dk_at dksJ14_fill_0 1 rfl rfl)
theorem dJ14_fill_2 : decode cJ14_fill 2 = .ok (.iload_n 1, 1) := dk_27 (dk_at dksJ14_fill_0 2 rfl rfl)
theorem dJ14_fill_3 : decode cJ14_fill 3 = .ok (.iload_n 2, 1) := dk_28 (dk_at dksJ14_fill_0 3 rfl rfl)
theorem dJ14_fill_4 : decode cJ14_fill 4 = .ok (.invokestatic 13, 3) := dk_184 0 13 (dk_at dksJ14_fill_0 4 rfl rfl)
theorem dJ14_fill_7 : decode cJ14_fill 7 = .ok (.iload_n 1, 1) := dk_27 (dk_at dksJ14_fill_0 7 rfl rfl)
theorem dJ14_fill_8 : decode cJ14_fill 8 = .ok (.istore 4, 2) := dk_54 4 (dk_at dksJ14_fill_0 8 rfl rfl)
theorem dJ14_fill_10 : decode cJ14_fill 10 = .ok (.iload 4, 2) := dk_21 4 (dk_at dksJ14_fill_0 10 rfl rfl)
theorem dJ14_fill_12 : decode cJ14_fill 12 = .ok (.iload_n 2, 1) := dk_28 (dk_at dksJ14_fill_0 12 rfl rfl)
theorem dJ14_fill_13 : decode cJ14_fill 13 = .ok (.if_icmp .ge 14, 3) := dk_162 0 14 (dk_at dksJ14_fill_0 13 rfl rfl)
theorem dJ14_fill_16 : decode cJ14_fill 16 = .ok (.aload_n 0, 1) := dk_42 (dk_at dksJ14_fill_0 16 rfl rfl)
theorem dJ14_fill_17 : decode cJ14_fill 17 = .ok (.iload 4, 2) := dk_21 4 (dk_at dksJ14_fill_0 17 rfl rfl)
theorem dJ14_fill_19 : decode cJ14_fill 19 = .ok (.iload_n 3, 1) := dk_29 (dk_at dksJ14_fill_0 19 rfl rfl)
theorem dJ14_fill_20 : decode cJ14_fill 20 = .ok (.bastore, 1) := dk_84 (dk_at dksJ14_fill_0 20 rfl rfl)
theorem dJ14_fill_21 : decode cJ14_fill 21 = .ok (.iinc 4 1, 3) := dk_132 4 1 (dk_at dksJ14_fill_0 21 rfl rfl)
theorem dJ14_fill_24 : decode cJ14_fill 24 = .ok (.goto (-14), 3) := dk_167 255 242 (dk_at dksJ14_fill_1 0 rfl rfl)
theorem dJ14_fill_27 : decode cJ14_fill 27 = .ok (.return_, 1) := dk_177 (dk_at dksJ14_fill_1 3 rfl rfl)
/-- java/util/Arrays.fill([BIIB)V -/
def zb409 (G : zPg) (C : zO) (args : List Value) (Q : zQ) (Y : zY) (σ : zS) : Prop := ∃ (x1 : Option Nat) (x2 : Int32) (x3 : Int32) (x4 : Int32), args = [va_rf x1, .int x2, .int x3, .int x4] ∧ (zln σ 2 x1 (fun v5 => zcl C 410 [.int v5, .int x2, .int x3] Y σ (zqV (fun s8 => ∃ n, zIt (fun _ _ => False) (fun rec12 (p10 : Int32) (s11 : zS) => ((x3 ≤ p10) → Q none s11) ∧ ((¬ x3 ≤ p10) → zsI s11 G.1 2 x1 p10 (vp_nar .byte x4) (fun s21 => (∀ v23 : Int32, v23 = p10 + (1 : Int32) → rec12 v23 s21)))) n x2 s8))))
set_option maxHeartbeats 4000000 in
theorem wk409 {l : Launch} {g : zG} {d : Nat} {C : zO} (hG : zGk g) (hC : zSound l g d C) {args : List Value} {Q : zQ} {Y : zY} {σ : zS} (hw : zb409 (zpg g) C args Q Y σ) : zMet l g (d + 1) (⟨"java/util/Arrays", "fill", "([BIIB)V"⟩, Cond.code ⟨"java/util/Arrays", "fill", "([BIIB)V"⟩ prog_59_method_110_code 5 (Option.none : Option FieldType)) args σ Q Y := by
  obtain ⟨x1, x2, x3, x4, rfl, hw⟩ := hw
  refine zof hG (by decide +kernel) [false, false, false, false] ⟨(zc_rf _), rfl, rfl, rfl, trivial⟩ (Nat.le_of_ble_eq_true rfl) (ls := [some (va_rf x1), some (.int x2), some (.int x3), some (.int x4), none]) rfl ?_
  intro X hX hR hTb hd1 hd2 hl hg hnm
  subst hl
  subst hg
  have hd : zDep X d := ⟨hd1, hd2⟩
  refine z_aload_n hX dJ14_fill_0 rfl (i := 0) rfl ?_
  obtain ⟨a1, n2, r3, m4, hw⟩ := hw
  refine z_alen hX 2 dJ14_fill_1 r3 m4 ?_
  revert hw
  generalize nI n2.1 = v5
  intro hw
  refine z_iload_n hX dJ14_fill_2 rfl (i := 1) rfl ?_
  refine z_iload_n hX dJ14_fill_3 rfl (i := 2) rfl ?_
  refine z_invS hX hd dJ14_fill_4 (hC 410 _ zm410 _ _ _ _ hw) q1173 q1174 zh20 q1175 q149 zn410 rfl (Nat.le_of_ble_eq_true rfl) (st := []) rfl (zcs8 (Nat.le_of_ble_eq_true rfl)) rfl (zkV (fun s8 hw => ?_)) (zout hX hR hTb)
  refine z_iload_n hX dJ14_fill_7 rfl (i := 1) rfl ?_
  refine z_istore hX dJ14_fill_8 (i := 4) (Nat.le_of_ble_eq_true rfl) rfl (ls2 := [some (va_rf x1), some (.int x2), some (.int x3), some (.int x4), some (.int x2)]) rfl ?_
  obtain ⟨n25, hw⟩ := hw
  refine z_sub (ls' := [some (va_rf x1), none, some (.int x3), some (.int x4), some (.int x2)]) (zsS (zsN (zsS (zsS (zsS (zs0)))))) ?_
  refine zIt_w (P := fun (j : Int32 → zS → Prop) => ∀ (p10 : Int32) (s11 : zS), j p10 s11 → zW X s11 10 [some (va_rf x1), none, some (.int x3), some (.int x4), some (.int p10)] []) (fun _ _ h => h.elim) (fun rec12 hrec12 p10 s11 hw => ?_) n25 _ _ hw
  refine z_iload hX dJ14_fill_10 (i := 4) rfl ?_
  refine z_iload_n hX dJ14_fill_12 rfl (i := 2) rfl ?_
  refine z_icmp_ge hX dJ14_fill_13 (tgt := 27) rfl (fun c13 => ?_) (fun c13 => ?_)
  · have hw := hw.1 c13
    exact z_return hX hR dJ14_fill_27 hw
  · have hw := hw.2 c13
    refine z_aload_n hX dJ14_fill_16 rfl (i := 0) rfl ?_
    refine z_iload hX dJ14_fill_17 (i := 4) rfl ?_
    refine z_iload_n hX dJ14_fill_19 rfl (i := 3) rfl ?_
    obtain ⟨a14, n15, f16, r17, g18, m19, i20, hw⟩ := hw
    refine z_bast hX dJ14_fill_20 r17 g18 m19 i20 (z_nm (fun s21 e22 => ?_))
    have hw := hw s21 e22
    obtain ⟨v23, e24⟩ : ∃ y : Int32, y = p10 + (1 : Int32) := ⟨_, rfl⟩
    refine z_iinc hX dJ14_fill_21 (i := 4) (v := v23) rfl (by rw [e24]; rfl) (Nat.le_of_ble_eq_true rfl) rfl (ls2 := [some (va_rf x1), none, some (.int x3), some (.int x4), some (.int v23)]) rfl ?_
    have hw := hw v23 e24
    refine z_goto hX dJ14_fill_24 (tgt := 10) rfl ?_
    exact hrec12 _ _ hw
abbrev cJ14_rangeCheck : ByteArray := prog_59_method_30_code
def yJ14_rangeCheck : MethodName := ⟨RJ14, "rangeCheck", "(III)V"⟩
def dkwJ14_rangeCheck_3 : List UInt8 := [183, 0, 70, 191, 177]
abbrev dktJ14_rangeCheck_3 : List UInt8 := dkwJ14_rangeCheck_3 ++ []
def dkwJ14_rangeCheck_2 : List UInt8 := [27, 156, 0, 12, 187, 0, 68, 89, 27, 183, 0, 70, 191, 28, 26, 164, 0, 12, 187, 0, 68, 89, 28]
abbrev dktJ14_rangeCheck_2 : List UInt8 := dkwJ14_rangeCheck_2 ++ dktJ14_rangeCheck_3
def dkwJ14_rangeCheck_1 : List UInt8 := [182, 0, 54, 18, 57, 182, 0, 50, 28, 182, 0, 54, 18, 59, 182, 0, 50, 182, 0, 61, 183, 0, 65, 191]
abbrev dktJ14_rangeCheck_1 : List UInt8 := dkwJ14_rangeCheck_1 ++ dktJ14_rangeCheck_2
def dkwJ14_rangeCheck_0 : List UInt8 := [27, 28, 164, 0, 44, 187, 0, 43, 89, 187, 0, 45, 89, 183, 0, 47, 18, 48, 182, 0, 50, 27]
abbrev dktJ14_rangeCheck_0 : List UInt8 := dkwJ14_rangeCheck_0 ++ dktJ14_rangeCheck_1
theorem dksJ14_rangeCheck_0 : cJ14_rangeCheck.data.toList.drop 0 = dktJ14_rangeCheck_0 := by decide +kernel
theorem dksJ14_rangeCheck_1 : cJ14_rangeCheck.data.toList.drop 22 = dktJ14_rangeCheck_1 := dk_seg dksJ14_rangeCheck_0 22 rfl rfl
theorem dksJ14_rangeCheck_2 : cJ14_rangeCheck.data.toList.drop 46 = dktJ14_rangeCheck_2 := dk_seg dksJ14_rangeCheck_1 24 rfl rfl
theorem dksJ14_rangeCheck_3 : cJ14_rangeCheck.data.toList.drop 69 = dktJ14_rangeCheck_3 := dk_seg dksJ14_rangeCheck_2 23 rfl rfl
theorem dJ14_rangeCheck_0 : decode cJ14_rangeCheck 0 = .ok (.iload_n 1, 1) := dk_27 (dk_at dksJ14_rangeCheck_0 0 rfl rfl)
theorem dJ14_rangeCheck_1 : decode cJ14_rangeCheck 1 = .ok (.iload_n 2, 1) := dk_28 (dk_at dksJ14_rangeCheck_0 1 rfl rfl)
theorem dJ14_rangeCheck_2 : decode cJ14_rangeCheck 2 = .ok (.if_icmp .le 44, 3) := dk_164 0 44 (dk_at dksJ14_rangeCheck_0 2 rfl rfl)
theorem dJ14_rangeCheck_5 : decode cJ14_rangeCheck 5 = .ok (.new 43, 3) := dk_187 0 43 (dk_at dksJ14_rangeCheck_0 5 rfl rfl)
theorem dJ14_rangeCheck_8 : decode cJ14_rangeCheck 8 = .ok (.dup, 1) := dk_89 (dk_at dksJ14_rangeCheck_0 8 rfl rfl)
theorem dJ14_rangeCheck_9 : decode cJ14_rangeCheck 9 = .ok (.new 45, 3) := dk_187 0 45 (dk_at dksJ14_rangeCheck_0 9 rfl rfl)
theorem dJ14_rangeCheck_12 : decode cJ14_rangeCheck 12 = .ok (.dup, 1) := dk_89 (dk_at dksJ14_rangeCheck_0 12 rfl rfl)
theorem dJ14_rangeCheck_13 : decode cJ14_rangeCheck 13 = .ok (.invokespecial 47, 3) := dk_183 0 47 (dk_at dksJ14_rangeCheck_0 13 rfl rfl)
theorem dJ14_rangeCheck_16 : decode cJ14_rangeCheck 16 = .ok (.ldc 48, 2) := dk_18 48 (dk_at dksJ14_rangeCheck_0 16 rfl rfl)
theorem dJ14_rangeCheck_18 : decode cJ14_rangeCheck 18 = .ok (.invokevirtual 50, 3) := dk_182 0 50 (dk_at dksJ14_rangeCheck_0 18 rfl rfl)
theorem dJ14_rangeCheck_21 : decode cJ14_rangeCheck 21 = .ok (.iload_n 1, 1) := dk_27 (dk_at dksJ14_rangeCheck_0 21 rfl rfl)
theorem dJ14_rangeCheck_22 : decode cJ14_rangeCheck 22 = .ok (.invokevirtual 54, 3) := dk_182 0 54 (dk_at dksJ14_rangeCheck_1 0 rfl rfl)
theorem dJ14_rangeCheck_25 : decode cJ14_rangeCheck 25 = .ok (.ldc 57, 2) := dk_18 57 (dk_at dksJ14_rangeCheck_1 3 rfl rfl)
theorem dJ14_rangeCheck_27 : decode cJ14_rangeCheck 27 = .ok (.invokevirtual 50, 3) := dk_182 0 50 (dk_at dksJ14_rangeCheck_1 5 rfl rfl)
theorem dJ14_rangeCheck_30 : decode cJ14_rangeCheck 30 = .ok (.iload_n 2, 1) := dk_28 (dk_at dksJ14_rangeCheck_1 8 rfl rfl)
theorem dJ14_rangeCheck_31 : decode cJ14_rangeCheck 31 = .ok (.invokevirtual 54, 3) := dk_182 0 54 (dk_at dksJ14_rangeCheck_1 9 rfl rfl)
theorem dJ14_rangeCheck_34 : decode cJ14_rangeCheck 34 = .ok (.ldc 59, 2) := dk_18 59 (dk_at dksJ14_rangeCheck_1 12 rfl rfl)
theorem dJ14_rangeCheck_36 : decode cJ14_rangeCheck 36 = .ok (.invokevirtual 50, 3) := dk_182 0 50 (dk_at dksJ14_rangeCheck_1 14 rfl rfl)
theorem dJ14_rangeCheck_39 : decode cJ14_rangeCheck 39 = .ok (.invokevirtual 61, 3) := dk_182 0 61 (dk_at dksJ14_rangeCheck_1 17 rfl rfl)
theorem dJ14_rangeCheck_42 : decode cJ14_rangeCheck 42 = .ok (.invokespecial 65, 3) := dk_183 0 65 (dk_at dksJ14_rangeCheck_1 20 rfl rfl)
theorem dJ14_rangeCheck_45 : decode cJ14_rangeCheck 45 = .ok (.athrow, 1) := dk_191 (dk_at dksJ14_rangeCheck_1 23 rfl rfl)
theorem dJ14_rangeCheck_46 : decode cJ14_rangeCheck 46 = .ok (.iload_n 1, 1) := dk_27 (dk_at dksJ14_rangeCheck_2 0 rfl rfl)
theorem dJ14_rangeCheck_47 : decode cJ14_rangeCheck 47 = .ok (.ifCond .ge 12, 3) := dk_156 0 12 (dk_at dksJ14_rangeCheck_2 1 rfl rfl)
theorem dJ14_rangeCheck_50 : decode cJ14_rangeCheck 50 = .ok (.new 68, 3) := dk_187 0 68 (dk_at dksJ14_rangeCheck_2 4 rfl rfl)
theorem dJ14_rangeCheck_53 : decode cJ14_rangeCheck 53 = .ok (.dup, 1) := dk_89 (dk_at dksJ14_rangeCheck_2 7 rfl rfl)
theorem dJ14_rangeCheck_54 : decode cJ14_rangeCheck 54 = .ok (.iload_n 1, 1) := dk_27 (dk_at dksJ14_rangeCheck_2 8 rfl rfl)
theorem dJ14_rangeCheck_55 : decode cJ14_rangeCheck 55 = .ok (.invokespecial 70, 3) := dk_183 0 70 (dk_at dksJ14_rangeCheck_2 9 rfl rfl)
theorem dJ14_rangeCheck_58 : decode cJ14_rangeCheck 58 = .ok (.athrow, 1) := dk_191 (dk_at dksJ14_rangeCheck_2 12 rfl rfl)
theorem dJ14_rangeCheck_59 : decode cJ14_rangeCheck 59 = .ok (.iload_n 2, 1) := dk_28 (dk_at dksJ14_rangeCheck_2 13 rfl rfl)
theorem dJ14_rangeCheck_60 : decode cJ14_rangeCheck 60 = .ok (.iload_n 0, 1) := dk_26 (dk_at dksJ14_rangeCheck_2 14 rfl rfl)
theorem dJ14_rangeCheck_61 : decode cJ14_rangeCheck 61 = .ok (.if_icmp .le 12, 3) := dk_164 0 12 (dk_at dksJ14_rangeCheck_2 15 rfl rfl)
theorem dJ14_rangeCheck_64 : decode cJ14_rangeCheck 64 = .ok (.new 68, 3) := dk_187 0 68 (dk_at dksJ14_rangeCheck_2 18 rfl rfl)
theorem dJ14_rangeCheck_67 : decode cJ14_rangeCheck 67 = .ok (.dup, 1) := dk_89 (dk_at dksJ14_rangeCheck_2 21 rfl rfl)
theorem dJ14_rangeCheck_68 : decode cJ14_rangeCheck 68 = .ok (.iload_n 2, 1) := dk_28 (dk_at dksJ14_rangeCheck_2 22 rfl rfl)
theorem dJ14_rangeCheck_69 : decode cJ14_rangeCheck 69 = .ok (.invokespecial 70, 3) := dk_183 0 70 (dk_at dksJ14_rangeCheck_3 0 rfl rfl)
theorem dJ14_rangeCheck_72 : decode cJ14_rangeCheck 72 = .ok (.athrow, 1) := dk_191 (dk_at dksJ14_rangeCheck_3 3 rfl rfl)
theorem dJ14_rangeCheck_73 : decode cJ14_rangeCheck 73 = .ok (.return_, 1) := dk_177 (dk_at dksJ14_rangeCheck_3 4 rfl rfl)
/-- java/util/Arrays.rangeCheck(III)V -/
def zb410 (G : zPg) (C : zO) (args : List Value) (Q : zQ) (Y : zY) (σ : zS) : Prop := ∃ (x1 : Int32) (x2 : Int32) (x3 : Int32), args = [.int x1, .int x2, .int x3] ∧ (((x2 ≤ x3) → ((0 ≤ x2) → ((x3 ≤ x1) → Q none σ) ∧ ((¬ x3 ≤ x1) → False)) ∧ ((¬ 0 ≤ x2) → False)) ∧ ((¬ x2 ≤ x3) → znew σ 6 [] 6 (fun s4 => znew s4 8 [va_rf none, .int 0, .int 0, .int 0] 4 (fun s7 => (∃ a13, (some s4.2.1) = some a13 ∧ zcl C 346 [.ref a13] Y s7 (zqV (fun s11 => False)))))))
set_option maxHeartbeats 4000000 in
theorem wk410 {l : Launch} {g : zG} {d : Nat} {C : zO} (hG : zGk g) (hC : zSound l g d C) {args : List Value} {Q : zQ} {Y : zY} {σ : zS} (hw : zb410 (zpg g) C args Q Y σ) : zMet l g (d + 1) (⟨"java/util/Arrays", "rangeCheck", "(III)V"⟩, Cond.code ⟨"java/util/Arrays", "rangeCheck", "(III)V"⟩ prog_59_method_30_code 3 (Option.none : Option FieldType)) args σ Q Y := by
  obtain ⟨x1, x2, x3, rfl, hw⟩ := hw
  refine zof hG (by decide +kernel) [false, false, false] ⟨rfl, rfl, rfl, trivial⟩ (Nat.le_of_ble_eq_true rfl) (ls := [some (.int x1), some (.int x2), some (.int x3)]) rfl ?_
  intro X hX hR hTb hd1 hd2 hl hg hnm
  subst hl
  subst hg
  have hd : zDep X d := ⟨hd1, hd2⟩
  refine z_iload_n hX dJ14_rangeCheck_0 rfl (i := 1) rfl ?_
  refine z_iload_n hX dJ14_rangeCheck_1 rfl (i := 2) rfl ?_
  refine z_icmp_le hX dJ14_rangeCheck_2 (tgt := 46) rfl (fun c1 => ?_) (fun c1 => ?_)
  · have hw := hw.1 c1
    refine z_iload_n hX dJ14_rangeCheck_46 rfl (i := 1) rfl ?_
    refine z_if_ge hX dJ14_rangeCheck_47 (tgt := 59) rfl (fun c2 => ?_) (fun c2 => ?_)
    · have hw := hw.1 c2
      refine z_iload_n hX dJ14_rangeCheck_59 rfl (i := 2) rfl ?_
      refine z_iload_n hX dJ14_rangeCheck_60 rfl (i := 0) rfl ?_
      refine z_icmp_le hX dJ14_rangeCheck_61 (tgt := 73) rfl (fun c3 => ?_) (fun c3 => ?_)
      · have hw := hw.1 c3
        exact z_return hX hR dJ14_rangeCheck_73 hw
      · have hw := hw.2 c3
        exact hw.elim
    · have hw := hw.2 c2
      exact hw.elim
  · have hw := hw.2 c1
    refine z_new hX zc6 dJ14_rangeCheck_5 q1176 q1071 q141 (fs := []) (fun j hj => absurd hj (Nat.not_lt_zero _)) hw.1 hw.2.1 (fun z5 => z_nm (fun s4 e6 => ?_))
    have hw := hw.2.2 z5 s4 e6
    refine z_dup hX dJ14_rangeCheck_8 (zc_rf _) ?_
    refine z_new hX zc8 dJ14_rangeCheck_9 q1177 q1095 q145 (fs := [va_rf none, .int 0, .int 0, .int 0]) (fun j hj => by have hj : j < 4 := hj; exact zdf8 j hj) hw.1 hw.2.1 (fun z8 => z_nm (fun s7 e9 => ?_))
    have hw := hw.2.2 z8 s7 e9
    refine z_dup hX dJ14_rangeCheck_12 (zc_rf _) ?_
    obtain ⟨a13, r14, hw⟩ := hw
    refine z_invI hX hd r14 dJ14_rangeCheck_13 (hC 346 _ zm346 _ _ _ _ hw) q1178 q1097 rfl zh16 q1098 q145 zn346 rfl (Nat.le_of_ble_eq_true rfl) (st := [va_rf (some s4.2.1), va_rf (some σ.2.1), va_rf (some σ.2.1)]) rfl (zcs8 (Nat.le_of_ble_eq_true rfl)) rfl (zkV (fun s11 hw => ?_)) (zout hX hR hTb)
    exact hw.elim
abbrev cJ14_copyOfRange : ByteArray := prog_59_method_132_code
def yJ14_copyOfRange : MethodName := ⟨RJ14, "copyOfRange", "([BII)[B"⟩
def dkwJ14_copyOfRange_1 : List UInt8 := [176]
abbrev dktJ14_copyOfRange_1 : List UInt8 := dkwJ14_copyOfRange_1 ++ []
def dkwJ14_copyOfRange_0 : List UInt8 := [27, 154, 0, 9, 28, 42, 190, 159, 0, 10, 42, 27, 28, 184, 1, 83, 176, 42, 182, 1, 54, 192, 1, 55]
abbrev dktJ14_copyOfRange_0 : List UInt8 := dkwJ14_copyOfRange_0 ++ dktJ14_copyOfRange_1
theorem dksJ14_copyOfRange_0 : cJ14_copyOfRange.data.toList.drop 0 = dktJ14_copyOfRange_0 := by decide +kernel
theorem dksJ14_copyOfRange_1 : cJ14_copyOfRange.data.toList.drop 24 = dktJ14_copyOfRange_1 := dk_seg dksJ14_copyOfRange_0 24 rfl rfl
theorem dJ14_copyOfRange_0 : decode cJ14_copyOfRange 0 = .ok (.iload_n 1, 1) := dk_27 (dk_at dksJ14_copyOfRange_0 0 rfl rfl)
theorem dJ14_copyOfRange_1 : decode cJ14_copyOfRange 1 = .ok (.ifCond .ne 9, 3) := dk_154 0 9 (dk_at dksJ14_copyOfRange_0 1 rfl rfl)
theorem dJ14_copyOfRange_4 : decode cJ14_copyOfRange 4 = .ok (.iload_n 2, 1) := dk_28 (dk_at dksJ14_copyOfRange_0 4 rfl rfl)
theorem dJ14_copyOfRange_5 : decode cJ14_copyOfRange 5 = .ok (.aload_n 0, 1) := dk_42 (dk_at dksJ14_copyOfRange_0 5 rfl rfl)
theorem dJ14_copyOfRange_6 : decode cJ14_copyOfRange 6 = .ok (.arraylength, 1) := dk_190 (dk_at dksJ14_copyOfRange_0 6 rfl rfl)
theorem dJ14_copyOfRange_7 : decode cJ14_copyOfRange 7 = .ok (.if_icmp .eq 10, 3) := dk_159 0 10 (dk_at dksJ14_copyOfRange_0 7 rfl rfl)
theorem dJ14_copyOfRange_10 : decode cJ14_copyOfRange 10 = .ok (.aload_n 0, 1) := dk_42 (dk_at dksJ14_copyOfRange_0 10 rfl rfl)
theorem dJ14_copyOfRange_11 : decode cJ14_copyOfRange 11 = .ok (.iload_n 1, 1) := dk_27 (dk_at dksJ14_copyOfRange_0 11 rfl rfl)
theorem dJ14_copyOfRange_12 : decode cJ14_copyOfRange 12 = .ok (.iload_n 2, 1) := dk_28 (dk_at dksJ14_copyOfRange_0 12 rfl rfl)
theorem dJ14_copyOfRange_13 : decode cJ14_copyOfRange 13 = .ok (.invokestatic 339, 3) := dk_184 1 83 (dk_at dksJ14_copyOfRange_0 13 rfl rfl)
theorem dJ14_copyOfRange_16 : decode cJ14_copyOfRange 16 = .ok (.areturn, 1) := dk_176 (dk_at dksJ14_copyOfRange_0 16 rfl rfl)
theorem dJ14_copyOfRange_17 : decode cJ14_copyOfRange 17 = .ok (.aload_n 0, 1) := dk_42 (dk_at dksJ14_copyOfRange_0 17 rfl rfl)
theorem dJ14_copyOfRange_18 : decode cJ14_copyOfRange 18 = .ok (.invokevirtual 310, 3) := dk_182 1 54 (dk_at dksJ14_copyOfRange_0 18 rfl rfl)
theorem dJ14_copyOfRange_21 : decode cJ14_copyOfRange 21 = .ok (.checkcast 311, 3) := dk_192 1 55 (dk_at dksJ14_copyOfRange_0 21 rfl rfl)
theorem dJ14_copyOfRange_24 : decode cJ14_copyOfRange 24 = .ok (.areturn, 1) := dk_176 (dk_at dksJ14_copyOfRange_1 0 rfl rfl)
/-- java/util/Arrays.copyOfRange([BII)[B -/
def zb411 (G : zPg) (C : zO) (args : List Value) (Q : zQ) (Y : zY) (σ : zS) : Prop := ∃ (x1 : Option Nat) (x2 : Int32) (x3 : Int32), args = [va_rf x1, .int x2, .int x3] ∧ (zJ (fun  (s1 : zS) => zcl C 412 [va_rf x1, .int x2, .int x3] Y s1 (zqR (fun v3 s4 => Q (some (va_rf v3)) s4))) (fun (j2 : zS → Prop) => ((¬ x2 = 0) → j2 σ) ∧ ((x2 = 0) → zln σ 2 x1 (fun v11 => ((x3 = v11) → zclo σ G.1 2 x1 (fun s14 => (∃ a15 n16, (some σ.2.1) = some a15 ∧ G.1 ≤ a15 ∧ s14.1 a15 = some (.inl (2, n16)) ∧ Q (some (va_rf (some σ.2.1))) s14))) ∧ ((¬ x3 = v11) → j2 σ)))))
set_option maxHeartbeats 4000000 in
theorem wk411 {l : Launch} {g : zG} {d : Nat} {C : zO} (hG : zGk g) (hC : zSound l g d C) {args : List Value} {Q : zQ} {Y : zY} {σ : zS} (hw : zb411 (zpg g) C args Q Y σ) : zMet l g (d + 1) (⟨"java/util/Arrays", "copyOfRange", "([BII)[B"⟩, Cond.code ⟨"java/util/Arrays", "copyOfRange", "([BII)[B"⟩ prog_59_method_132_code 3 (Option.some (FieldType.array FieldType.byte))) args σ Q Y := by
  obtain ⟨x1, x2, x3, rfl, hw⟩ := hw
  refine zof hG (by decide +kernel) [false, false, false] ⟨(zc_rf _), rfl, rfl, trivial⟩ (Nat.le_of_ble_eq_true rfl) (ls := [some (va_rf x1), some (.int x2), some (.int x3)]) rfl ?_
  intro X hX hR hTb hd1 hd2 hl hg hnm
  subst hl
  subst hg
  have hd : zDep X d := ⟨hd1, hd2⟩
  refine z_iload_n hX dJ14_copyOfRange_0 rfl (i := 1) rfl ?_
  refine zJ_w (P := fun (j : zS → Prop) => ∀  (s1 : zS), j  s1 → zW X s1 10 [some (va_rf x1), some (.int x2), some (.int x3)] []) hw (fun  s1 hw => ?_) (fun j2 hj2 hw => ?_)
  · refine z_aload_n hX dJ14_copyOfRange_10 rfl (i := 0) rfl ?_
    refine z_iload_n hX dJ14_copyOfRange_11 rfl (i := 1) rfl ?_
    refine z_iload_n hX dJ14_copyOfRange_12 rfl (i := 2) rfl ?_
    refine z_invS hX hd dJ14_copyOfRange_13 (hC 412 _ zm412 _ _ _ _ hw) q1298 q1299 zh20 q1300 q149 zn412 rfl (Nat.le_of_ble_eq_true rfl) (st := []) rfl (zcs8 (Nat.le_of_ble_eq_true rfl)) rfl (zkR (fun v3 s4 hw => ?_)) (zout hX hR hTb)
    exact z_areturn hX hR dJ14_copyOfRange_16 (Or.inr ⟨_, rfl⟩) hw
  · refine z_if_ne hX dJ14_copyOfRange_1 (tgt := 10) rfl (fun c6 => ?_) (fun c6 => ?_)
    · have hw := hw.1 c6
      exact hj2  _ hw
    · have hw := hw.2 c6
      refine z_iload_n hX dJ14_copyOfRange_4 rfl (i := 2) rfl ?_
      refine z_aload_n hX dJ14_copyOfRange_5 rfl (i := 0) rfl ?_
      obtain ⟨a7, n8, r9, m10, hw⟩ := hw
      refine z_alen hX 2 dJ14_copyOfRange_6 r9 m10 ?_
      revert hw
      generalize nI n8.1 = v11
      intro hw
      refine z_icmp_eq hX dJ14_copyOfRange_7 (tgt := 17) rfl (fun c13 => ?_) (fun c13 => ?_)
      · have hw := hw.1 c13
        refine z_aload_n hX dJ14_copyOfRange_17 rfl (i := 0) rfl ?_
        refine z_clo hX hd 2 (ad := "[B") dJ14_copyOfRange_18 q1155 q1156 q1157 q1158 q1159 q1160 rfl (fun _ _ h => h) hw rfl (zcs8 (Nat.le_of_ble_eq_true rfl)) (fun s14 hw => ?_)
        obtain ⟨a15, n16, r17, g18, m19, hw⟩ := hw
        refine z_castA hX 2 dJ14_copyOfRange_21 q1161 rfl (fun _ _ h => h) r17 g18 m19 ?_
        exact z_areturn hX hR dJ14_copyOfRange_24 (Or.inr ⟨_, rfl⟩) hw
      · have hw := hw.2 c13
        exact hj2  _ hw
