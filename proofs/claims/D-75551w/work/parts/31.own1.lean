set_option maxRecDepth 100000
abbrev cX2_room : ByteArray := prog_20_method_7_code
def yX2_room : MethodName := ⟨RX2, "room", "(I)I"⟩
def dkwX2_room_0 : List UInt8 := [42, 180, 0, 41, 42, 182, 0, 80, 27, 182, 0, 90, 100, 172]
abbrev dktX2_room_0 : List UInt8 := dkwX2_room_0 ++ []
theorem dksX2_room_0 : cX2_room.data.toList.drop 0 = dktX2_room_0 := by decide +kernel
theorem dX2_room_0 : decode cX2_room 0 = .ok (.aload_n 0, 1) := dk_42 (dk_at dksX2_room_0 0 rfl rfl)
theorem dX2_room_1 : decode cX2_room 1 = .ok (.getfield 41, 3) := dk_180 0 41 (dk_at dksX2_room_0 1 rfl rfl)
theorem dX2_room_4 : decode cX2_room 4 = .ok (.aload_n 0, 1) := dk_42 (dk_at dksX2_room_0 4 rfl rfl)
theorem dX2_room_5 : decode cX2_room 5 = .ok (.invokevirtual 80, 3) := dk_182 0 80 (dk_at dksX2_room_0 5 rfl rfl)
theorem dX2_room_8 : decode cX2_room 8 = .ok (.iload_n 1, 1) := dk_27 (dk_at dksX2_room_0 8 rfl rfl)
theorem dX2_room_9 : decode cX2_room 9 = .ok (.invokevirtual 90, 3) := dk_182 0 90 (dk_at dksX2_room_0 9 rfl rfl)
theorem dX2_room_12 : decode cX2_room 12 = .ok (.isub, 1) := dk_100 (dk_at dksX2_room_0 12 rfl rfl)
theorem dX2_room_13 : decode cX2_room 13 = .ok (.ireturn, 1) := dk_172 (dk_at dksX2_room_0 13 rfl rfl)
/-- PackingDuel$State.room(I)I -/
def zb86 (G : zPg) (C : zO) (args : List Value) (Q : zQ) (Y : zY) (σ : zS) : Prop := ∃ (a0 : Nat) (x1 : Int32), args = [.ref a0, .int x1] ∧ (zgI σ (some a0) 1 3 (fun v1 => zrc σ (some a0) 1 (fun a10 => zcl C 83 [.ref a10] Y σ (zqR (fun v7 s8 => zrc s8 v7 14 (fun a17 => zcl C 453 [.ref a17, .int x1] Y s8 (zqI (fun v14 s15 => Q (some (.int (v1 - v14))) s15))))))))
set_option maxHeartbeats 4000000 in
theorem wk86 {l : Launch} {g : zG} {d : Nat} {C : zO} (hG : zGk g) (hC : zSound l g d C) {args : List Value} {Q : zQ} {Y : zY} {σ : zS} (hw : zb86 (zpg g) C args Q Y σ) : zMet l g (d + 1) (⟨"PackingDuel$State", "room", "(I)I"⟩, Cond.code ⟨"PackingDuel$State", "room", "(I)I"⟩ prog_20_method_7_code 2 (Option.some FieldType.int)) args σ Q Y := by
  obtain ⟨a0, x1, rfl, hw⟩ := hw
  refine zof hG (by decide +kernel) [false, false] ⟨rfl, rfl, trivial⟩ (Nat.le_of_ble_eq_true rfl) (ls := [some (va_rf (some a0)), some (.int x1)]) rfl ?_
  intro X hX hR hTb hd1 hd2 hl hg hnm
  subst hl
  subst hg
  have hd : zDep X d := ⟨hd1, hd2⟩
  refine z_aload_n hX dX2_room_0 rfl (i := 0) rfl ?_
  obtain ⟨a2, f3, v1, r4, m5, e6, hw⟩ := hw
  refine z_get hX zc1 (k := 3) dX2_room_1 (Nat.le_of_ble_eq_true rfl) (zlk hX q235) r4 m5 e6 ?_
  refine z_aload_n hX dX2_room_4 rfl (i := 0) rfl ?_
  obtain ⟨a10, f11, r12, m13, hw⟩ := hw
  refine z_invV hX hd r12 (ci := 1) rfl rfl m13 dX2_room_5 (hC 83 _ zm83 _ _ _ _ hw) q351 q352 q353 zh2 q354 q131 zn83 rfl (Nat.le_of_ble_eq_true rfl) (st := [.int v1]) rfl (zcs8 (Nat.le_of_ble_eq_true rfl)) rfl (zkR (fun v7 s8 hw => ?_)) (zout hX hR hTb)
  refine z_iload_n hX dX2_room_8 rfl (i := 1) rfl ?_
  obtain ⟨a17, f18, r19, m20, hw⟩ := hw
  refine z_invV hX hd r19 (ci := 14) rfl rfl m20 dX2_room_9 (hC 453 _ zm453 _ _ _ _ hw) q403 q404 q405 zh30 q406 q161 zn453 rfl (Nat.le_of_ble_eq_true rfl) (st := [.int v1]) rfl (zcs8 (Nat.le_of_ble_eq_true rfl)) rfl (zkI (fun v14 s15 hw => ?_)) (zout hX hR hTb)
  refine z_isub hX dX2_room_12 ?_
  exact z_ireturn hX hR dX2_room_13 rfl hw
abbrev cX2_replies : ByteArray := prog_20_method_9_code
def yX2_replies : MethodName := ⟨RX2, "replies", "()[I"⟩
def dkwX2_replies_3 : List UInt8 := [167, 255, 220, 42, 180, 0, 103, 176]
abbrev dktX2_replies_3 : List UInt8 := dkwX2_replies_3 ++ []
def dkwX2_replies_2 : List UInt8 := [42, 28, 182, 0, 111, 153, 0, 12, 42, 28, 43, 182, 0, 115, 167, 0, 4, 2, 79, 132, 2, 1]
abbrev dktX2_replies_2 : List UInt8 := dkwX2_replies_2 ++ dktX2_replies_3
def dkwX2_replies_1 : List UInt8 := [42, 180, 0, 48, 183, 0, 108, 76, 3, 61, 28, 42, 180, 0, 103, 190, 162, 0, 33, 42, 180, 0, 103, 28]
abbrev dktX2_replies_1 : List UInt8 := dkwX2_replies_1 ++ dktX2_replies_2
def dkwX2_replies_0 : List UInt8 := [42, 180, 0, 103, 199, 0, 69, 42, 42, 182, 0, 80, 182, 0, 83, 188, 10, 181, 0, 103, 187, 0, 106, 89]
abbrev dktX2_replies_0 : List UInt8 := dkwX2_replies_0 ++ dktX2_replies_1
theorem dksX2_replies_0 : cX2_replies.data.toList.drop 0 = dktX2_replies_0 := by decide +kernel
theorem dksX2_replies_1 : cX2_replies.data.toList.drop 24 = dktX2_replies_1 := dk_seg dksX2_replies_0 24 rfl rfl
theorem dksX2_replies_2 : cX2_replies.data.toList.drop 48 = dktX2_replies_2 := dk_seg dksX2_replies_1 24 rfl rfl
theorem dksX2_replies_3 : cX2_replies.data.toList.drop 70 = dktX2_replies_3 := dk_seg dksX2_replies_2 22 rfl rfl
theorem dX2_replies_0 : decode cX2_replies 0 = .ok (.aload_n 0, 1) := dk_42 (dk_at dksX2_replies_0 0 rfl rfl)
theorem dX2_replies_1 : decode cX2_replies 1 = .ok (.getfield 103, 3) := dk_180 0 103 (dk_at dksX2_replies_0 1 rfl rfl)
theorem dX2_replies_4 : decode cX2_replies 4 = .ok (.ifnonnull 69, 3) := dk_199 0 69 (dk_at dksX2_replies_0 4 rfl rfl)
theorem dX2_replies_7 : decode cX2_replies 7 = .ok (.aload_n 0, 1) := dk_42 (dk_at dksX2_replies_0 7 rfl rfl)
theorem dX2_replies_8 : decode cX2_replies 8 = .ok (.aload_n 0, 1) := dk_42 (dk_at dksX2_replies_0 8 rfl rfl)
theorem dX2_replies_9 : decode cX2_replies 9 = .ok (.invokevirtual 80, 3) := dk_182 0 80 (dk_at dksX2_replies_0 9 rfl rfl)
theorem dX2_replies_12 : decode cX2_replies 12 = .ok (.invokevirtual 83, 3) := dk_182 0 83 (dk_at dksX2_replies_0 12 rfl rfl)
theorem dX2_replies_15 : decode cX2_replies 15 = .ok (.newarray .int, 2) := dk_188_10 (dk_at dksX2_replies_0 15 rfl rfl)
theorem dX2_replies_17 : decode cX2_replies 17 = .ok (.putfield 103, 3) := dk_181 0 103 (dk_at dksX2_replies_0 17 rfl rfl)
theorem dX2_replies_20 : decode cX2_replies 20 = .ok (.new 106, 3) := dk_187 0 106 (dk_at dksX2_replies_0 20 rfl rfl)
theorem dX2_replies_23 : decode cX2_replies 23 = .ok (.dup, 1) := dk_89 (dk_at dksX2_replies_0 23 rfl rfl)
theorem dX2_replies_24 : decode cX2_replies 24 = .ok (.aload_n 0, 1) := dk_42 (dk_at dksX2_replies_1 0 rfl rfl)
theorem dX2_replies_25 : decode cX2_replies 25 = .ok (.getfield 48, 3) := dk_180 0 48 (dk_at dksX2_replies_1 1 rfl rfl)
theorem dX2_replies_28 : decode cX2_replies 28 = .ok (.invokespecial 108, 3) := dk_183 0 108 (dk_at dksX2_replies_1 4 rfl rfl)
theorem dX2_replies_31 : decode cX2_replies 31 = .ok (.astore_n 1, 1) := dk_76 (dk_at dksX2_replies_1 7 rfl rfl)
theorem dX2_replies_32 : decode cX2_replies 32 = .ok (.iconst 0, 1) := dk_3 (dk_at dksX2_replies_1 8 rfl rfl)
theorem dX2_replies_33 : decode cX2_replies 33 = .ok (.istore_n 2, 1) := dk_61 (dk_at dksX2_replies_1 9 rfl rfl)
theorem dX2_replies_34 : decode cX2_replies 34 = .ok (.iload_n 2, 1) := dk_28 (dk_at dksX2_replies_1 10 rfl rfl)
theorem dX2_replies_35 : decode cX2_replies 35 = .ok (.aload_n 0, 1) := dk_42 (dk_at dksX2_replies_1 11 rfl rfl)
theorem dX2_replies_36 : decode cX2_replies 36 = .ok (.getfield 103, 3) := dk_180 0 103 (dk_at dksX2_replies_1 12 rfl rfl)
theorem dX2_replies_39 : decode cX2_replies 39 = .ok (.arraylength, 1) := dk_190 (dk_at dksX2_replies_1 15 rfl rfl)
theorem dX2_replies_40 : decode cX2_replies 40 = .ok (.if_icmp .ge 33, 3) := dk_162 0 33 (dk_at dksX2_replies_1 16 rfl rfl)
theorem dX2_replies_43 : decode cX2_replies 43 = .ok (.aload_n 0, 1) := dk_42 (dk_at dksX2_replies_1 19 rfl rfl)
theorem dX2_replies_44 : decode cX2_replies 44 = .ok (.getfield 103, 3) := dk_180 0 103 (dk_at dksX2_replies_1 20 rfl rfl)
theorem dX2_replies_47 : decode cX2_replies 47 = .ok (.iload_n 2, 1) := dk_28 (dk_at dksX2_replies_1 23 rfl rfl)
theorem dX2_replies_48 : decode cX2_replies 48 = .ok (.aload_n 0, 1) := dk_42 (dk_at dksX2_replies_2 0 rfl rfl)
theorem dX2_replies_49 : decode cX2_replies 49 = .ok (.iload_n 2, 1) := dk_28 (dk_at dksX2_replies_2 1 rfl rfl)
theorem dX2_replies_50 : decode cX2_replies 50 = .ok (.invokevirtual 111, 3) := dk_182 0 111 (dk_at dksX2_replies_2 2 rfl rfl)
theorem dX2_replies_53 : decode cX2_replies 53 = .ok (.ifCond .eq 12, 3) := dk_153 0 12 (dk_at dksX2_replies_2 5 rfl rfl)
theorem dX2_replies_56 : decode cX2_replies 56 = .ok (.aload_n 0, 1) := dk_42 (dk_at dksX2_replies_2 8 rfl rfl)
theorem dX2_replies_57 : decode cX2_replies 57 = .ok (.iload_n 2, 1) := dk_28 (dk_at dksX2_replies_2 9 rfl rfl)
theorem dX2_replies_58 : decode cX2_replies 58 = .ok (.aload_n 1, 1) := dk_43 (dk_at dksX2_replies_2 10 rfl rfl)
theorem dX2_replies_59 : decode cX2_replies 59 = .ok (.invokevirtual 115, 3) := dk_182 0 115 (dk_at dksX2_replies_2 11 rfl rfl)
theorem dX2_replies_62 : decode cX2_replies 62 = .ok (.goto 4, 3) := dk_167 0 4 (dk_at dksX2_replies_2 14 rfl rfl)
theorem dX2_replies_65 : decode cX2_replies 65 = .ok (.iconst (-1), 1) := dk_2 (dk_at dksX2_replies_2 17 rfl rfl)
theorem dX2_replies_66 : decode cX2_replies 66 = .ok (.iastore, 1) := dk_79 (dk_at dksX2_replies_2 18 rfl rfl)
theorem dX2_replies_67 : decode cX2_replies 67 = .ok (.iinc 2 1, 3) := dk_132 2 1 (dk_at dksX2_replies_2 19 rfl rfl)
theorem dX2_replies_70 : decode cX2_replies 70 = .ok (.goto (-36), 3) := dk_167 255 220 (dk_at dksX2_replies_3 0 rfl rfl)
theorem dX2_replies_73 : decode cX2_replies 73 = .ok (.aload_n 0, 1) := dk_42 (dk_at dksX2_replies_3 3 rfl rfl)
theorem dX2_replies_74 : decode cX2_replies 74 = .ok (.getfield 103, 3) := dk_180 0 103 (dk_at dksX2_replies_3 4 rfl rfl)
theorem dX2_replies_77 : decode cX2_replies 77 = .ok (.areturn, 1) := dk_176 (dk_at dksX2_replies_3 7 rfl rfl)
/-- PackingDuel$State.replies()[I -/
def zb87 (G : zPg) (C : zO) (args : List Value) (Q : zQ) (Y : zY) (σ : zS) : Prop := ∃ (a0 : Nat), args = [.ref a0] ∧ (zgR σ (some a0) 1 12 (fun v1 => zJ (fun  (s7 : zS) => zgR s7 (some a0) 1 12 (fun v9 => Q (some (va_rf v9)) s7)) (fun (j8 : zS → Prop) => ((¬ v1 = none) → j8 σ) ∧ ((v1 = none) → zrc σ (some a0) 1 (fun a19 => zcl C 83 [.ref a19] Y σ (zqR (fun v16 s17 => zrc s17 v16 14 (fun a26 => zcl C 452 [.ref a26] Y s17 (zqI (fun v23 s24 => znewA s24 0 v23 (.inl (fun _ => 0)) (fun s30 => zput s30 G.1 (some a0) 1 12 (va_rf (some s24.2.1)) (fun s33 => znew s33 17 [.int 0] 1 (fun s41 => zgI s41 (some a0) 1 5 (fun v44 => (∃ a53, (some s33.2.1) = some a53 ∧ zcl C 459 [.ref a53, .int v44] Y s41 (zqV (fun s51 => ∃ n, zIt (fun _ _ => False) (fun rec57 (p55 : Int32) (s56 : zS) => zgR s56 (some a0) 1 12 (fun v58 => zln s56 0 v58 (fun v68 => ((v68 ≤ p55) → j8 s56) ∧ ((¬ v68 ≤ p55) → zgR s56 (some a0) 1 12 (fun v71 => zrc s56 (some a0) 1 (fun a80 => zcl C 84 [.ref a80, .int p55] Y s56 (zqI (fun v77 s78 => zJ (fun (p84 : Int32) (s85 : zS) => zsI s85 G.1 0 v71 p55 p84 (fun s94 => (∀ v96 : Int32, v96 = p55 + (1 : Int32) → rec57 v96 s94))) (fun (j86 : Int32 → zS → Prop) => ((v77 = 0) → j86 (-1 : Int32) s78) ∧ ((¬ v77 = 0) → zrc s78 (some a0) 1 (fun a102 => zcl C 88 [.ref a102, .int p55, va_rf (some s33.2.1)] Y s78 (zqI (fun v99 s100 => j86 v99 s100))))))))))))) n (0 : Int32) s51)))))))))))))))))
set_option maxHeartbeats 4000000 in
theorem wk87 {l : Launch} {g : zG} {d : Nat} {C : zO} (hG : zGk g) (hC : zSound l g d C) {args : List Value} {Q : zQ} {Y : zY} {σ : zS} (hw : zb87 (zpg g) C args Q Y σ) : zMet l g (d + 1) (⟨"PackingDuel$State", "replies", "()[I"⟩, Cond.code ⟨"PackingDuel$State", "replies", "()[I"⟩ prog_20_method_9_code 3 (Option.some (FieldType.array FieldType.int))) args σ Q Y := by
  obtain ⟨a0, rfl, hw⟩ := hw
  refine zof hG (by decide +kernel) [false] ⟨rfl, trivial⟩ (Nat.le_of_ble_eq_true rfl) (ls := [some (va_rf (some a0)), none, none]) rfl ?_
  intro X hX hR hTb hd1 hd2 hl hg hnm
  subst hl
  subst hg
  have hd : zDep X d := ⟨hd1, hd2⟩
  refine z_aload_n hX dX2_replies_0 rfl (i := 0) rfl ?_
  obtain ⟨a2, f3, v1, r4, m5, e6, hw⟩ := hw
  refine z_get hX zc1 (k := 12) dX2_replies_1 (Nat.le_of_ble_eq_true rfl) (zlk hX q254) r4 m5 e6 ?_
  refine zJ_w (P := fun (j : zS → Prop) => ∀  (s7 : zS), j  s7 → zW X s7 73 [some (va_rf (some a0)), none, none] []) hw (fun  s7 hw => ?_) (fun j8 hj8 hw => ?_)
  · refine z_aload_n hX dX2_replies_73 rfl (i := 0) rfl ?_
    obtain ⟨a10, f11, v9, r12, m13, e14, hw⟩ := hw
    refine z_get hX zc1 (k := 12) dX2_replies_74 (Nat.le_of_ble_eq_true rfl) (zlk hX q254) r12 m13 e14 ?_
    exact z_areturn hX hR dX2_replies_77 (Or.inr ⟨_, rfl⟩) hw
  · refine z_ifnonnull hX dX2_replies_4 (tgt := 73) rfl (fun c15 => ?_) (fun c15 => ?_)
    · have hw := hw.1 c15
      exact hj8  _ hw
    · have hw := hw.2 c15
      refine z_aload_n hX dX2_replies_7 rfl (i := 0) rfl ?_
      refine z_aload_n hX dX2_replies_8 rfl (i := 0) rfl ?_
      obtain ⟨a19, f20, r21, m22, hw⟩ := hw
      refine z_invV hX hd r21 (ci := 1) rfl rfl m22 dX2_replies_9 (hC 83 _ zm83 _ _ _ _ hw) q351 q352 q353 zh2 q354 q131 zn83 rfl (Nat.le_of_ble_eq_true rfl) (st := [va_rf (some a0)]) rfl (zcs8 (Nat.le_of_ble_eq_true rfl)) rfl (zkR (fun v16 s17 hw => ?_)) (zout hX hR hTb)
      obtain ⟨a26, f27, r28, m29, hw⟩ := hw
      refine z_invV hX hd r28 (ci := 14) rfl rfl m29 dX2_replies_12 (hC 452 _ zm452 _ _ _ _ hw) q395 q396 q397 zh30 q398 q161 zn452 rfl (Nat.le_of_ble_eq_true rfl) (st := [va_rf (some a0)]) rfl (zcs8 (Nat.le_of_ble_eq_true rfl)) rfl (zkI (fun v23 s24 hw => ?_)) (zout hX hR hTb)
      refine z_newI hX dX2_replies_15 q394 hw.1 hw.2.1 hw.2.2.1 hw.2.2.2.1 (fun z31 => z_nm (fun s30 e32 => ?_))
      have hw := hw.2.2.2.2 z31 s30 e32
      obtain ⟨a35, f36, r37, g38, m39, l40, hw⟩ := hw
      refine z_put hX zc1 (k := 12) dX2_replies_17 (Nat.le_of_ble_eq_true rfl) (zlk hX q254) rfl (zn_a _ _) (zf_a _ _) r37 g38 m39 l40 (z_nm (fun s33 e34 => ?_))
      have hw := hw s33 e34
      refine z_new hX zc17 dX2_replies_20 q419 q420 q167 (fs := [.int 0]) (fun j hj => by have hj : j < 1 := hj; exact zdf17 j hj) hw.1 hw.2.1 (fun z42 => z_nm (fun s41 e43 => ?_))
      have hw := hw.2.2 z42 s41 e43
      refine z_dup hX dX2_replies_23 (zc_rf _) ?_
      refine z_aload_n hX dX2_replies_24 rfl (i := 0) rfl ?_
      obtain ⟨a45, f46, v44, r47, m48, e49, hw⟩ := hw
      refine z_get hX zc1 (k := 5) dX2_replies_25 (Nat.le_of_ble_eq_true rfl) (zlk hX q242) r47 m48 e49 ?_
      obtain ⟨a53, r54, hw⟩ := hw
      refine z_invI hX hd r54 dX2_replies_28 (hC 459 _ zm459 _ _ _ _ hw) q421 q422 rfl zh35 q423 q167 zn459 rfl (Nat.le_of_ble_eq_true rfl) (st := [va_rf (some s33.2.1)]) rfl (zcs8 (Nat.le_of_ble_eq_true rfl)) rfl (zkV (fun s51 hw => ?_)) (zout hX hR hTb)
      refine z_astore_n hX dX2_replies_31 rfl (i := 1) (Nat.le_of_ble_eq_true rfl) (zc_rf _) (ls2 := [some (va_rf (some a0)), some (va_rf (some s33.2.1)), none]) rfl ?_
      refine z_iconst hX (v := (0 : Int32)) dX2_replies_32 (by decide) ?_
      refine z_istore_n hX dX2_replies_33 rfl (i := 2) (Nat.le_of_ble_eq_true rfl) (zc_rf _) (ls2 := [some (va_rf (some a0)), some (va_rf (some s33.2.1)), some (.int (0 : Int32))]) rfl ?_
      obtain ⟨n106, hw⟩ := hw
      refine zIt_w (P := fun (j : Int32 → zS → Prop) => ∀ (p55 : Int32) (s56 : zS), j p55 s56 → zW X s56 34 [some (va_rf (some a0)), some (va_rf (some s33.2.1)), some (.int p55)] []) (fun _ _ h => h.elim) (fun rec57 hrec57 p55 s56 hw => ?_) n106 _ _ hw
      refine z_iload_n hX dX2_replies_34 rfl (i := 2) rfl ?_
      refine z_aload_n hX dX2_replies_35 rfl (i := 0) rfl ?_
      obtain ⟨a59, f60, v58, r61, m62, e63, hw⟩ := hw
      refine z_get hX zc1 (k := 12) dX2_replies_36 (Nat.le_of_ble_eq_true rfl) (zlk hX q254) r61 m62 e63 ?_
      obtain ⟨a64, n65, r66, m67, hw⟩ := hw
      refine z_alen hX 0 dX2_replies_39 r66 m67 ?_
      revert hw
      generalize nI n65.1 = v68
      intro hw
      refine z_icmp_ge hX dX2_replies_40 (tgt := 73) rfl (fun c70 => ?_) (fun c70 => ?_)
      · have hw := hw.1 c70
        refine z_sub (ls' := [some (va_rf (some a0)), none, none]) (zsS (zsN (zsN (zs0)))) ?_
        exact hj8  _ hw
      · have hw := hw.2 c70
        refine z_aload_n hX dX2_replies_43 rfl (i := 0) rfl ?_
        obtain ⟨a72, f73, v71, r74, m75, e76, hw⟩ := hw
        refine z_get hX zc1 (k := 12) dX2_replies_44 (Nat.le_of_ble_eq_true rfl) (zlk hX q254) r74 m75 e76 ?_
        refine z_iload_n hX dX2_replies_47 rfl (i := 2) rfl ?_
        refine z_aload_n hX dX2_replies_48 rfl (i := 0) rfl ?_
        refine z_iload_n hX dX2_replies_49 rfl (i := 2) rfl ?_
        obtain ⟨a80, f81, r82, m83, hw⟩ := hw
        refine z_invV hX hd r82 (ci := 1) rfl rfl m83 dX2_replies_50 (hC 84 _ zm84 _ _ _ _ hw) q399 q400 q401 zh2 q402 q131 zn84 rfl (Nat.le_of_ble_eq_true rfl) (st := [.int p55, va_rf v71]) rfl (zcs8 (Nat.le_of_ble_eq_true rfl)) rfl (zkI (fun v77 s78 hw => ?_)) (zout hX hR hTb)
        refine zJ_w (P := fun (j : Int32 → zS → Prop) => ∀ (p84 : Int32) (s85 : zS), j p84 s85 → zW X s85 66 [some (va_rf (some a0)), some (va_rf (some s33.2.1)), some (.int p55)] [.int p84, .int p55, va_rf v71]) hw (fun p84 s85 hw => ?_) (fun j86 hj86 hw => ?_)
        · obtain ⟨a87, n88, f89, r90, g91, m92, i93, hw⟩ := hw
          refine z_iast hX dX2_replies_66 r90 g91 m92 i93 (z_nm (fun s94 e95 => ?_))
          have hw := hw s94 e95
          obtain ⟨v96, e97⟩ : ∃ y : Int32, y = p55 + (1 : Int32) := ⟨_, rfl⟩
          refine z_iinc hX dX2_replies_67 (i := 2) (v := v96) rfl (by rw [e97]; rfl) (Nat.le_of_ble_eq_true rfl) (zc_rf _) (ls2 := [some (va_rf (some a0)), some (va_rf (some s33.2.1)), some (.int v96)]) rfl ?_
          have hw := hw v96 e97
          refine z_goto hX dX2_replies_70 (tgt := 34) rfl ?_
          exact hrec57 _ _ hw
        · refine z_if_eq hX dX2_replies_53 (tgt := 65) rfl (fun c98 => ?_) (fun c98 => ?_)
          · have hw := hw.1 c98
            refine z_iconst hX (v := (-1 : Int32)) dX2_replies_65 (by decide) ?_
            exact hj86 _ _ hw
          · have hw := hw.2 c98
            refine z_aload_n hX dX2_replies_56 rfl (i := 0) rfl ?_
            refine z_iload_n hX dX2_replies_57 rfl (i := 2) rfl ?_
            refine z_aload_n hX dX2_replies_58 rfl (i := 1) rfl ?_
            obtain ⟨a102, f103, r104, m105, hw⟩ := hw
            refine z_invV hX hd r104 (ci := 1) rfl rfl m105 dX2_replies_59 (hC 88 _ zm88 _ _ _ _ hw) q432 q434 qs2 zh2 q435 q131 zn88 rfl (Nat.le_of_ble_eq_true rfl) (st := [.int p55, va_rf v71]) rfl (zcs8 (Nat.le_of_ble_eq_true rfl)) rfl (zkI (fun v99 s100 hw => ?_)) (zout hX hR hTb)
            refine z_goto hX dX2_replies_62 (tgt := 66) rfl ?_
            exact hj86 _ _ hw
abbrev cX2_filling : ByteArray := prog_20_method_8_code
def yX2_filling : MethodName := ⟨RX2, "filling", "(ILPackingDuel$Taste;)I"⟩
def dkwX2_filling_3 : List UInt8 := [54, 5, 167, 255, 207, 21, 4, 172]
abbrev dktX2_filling_3 : List UInt8 := dkwX2_filling_3 ++ []
def dkwX2_filling_2 : List UInt8 := [182, 0, 80, 21, 5, 21, 4, 182, 0, 97, 153, 0, 7, 21, 5, 54, 4, 21, 5, 4, 100, 29, 126]
abbrev dktX2_filling_2 : List UInt8 := dkwX2_filling_2 ++ dktX2_filling_3
def dkwX2_filling_1 : List UInt8 := [158, 0, 50, 42, 182, 0, 80, 21, 5, 182, 0, 90, 42, 27, 182, 0, 94, 163, 0, 22, 44, 42]
abbrev dktX2_filling_1 : List UInt8 := dkwX2_filling_1 ++ dktX2_filling_2
def dkwX2_filling_0 : List UInt8 := [42, 182, 0, 80, 182, 0, 83, 4, 100, 27, 2, 130, 126, 62, 3, 54, 4, 29, 54, 5, 21, 5]
abbrev dktX2_filling_0 : List UInt8 := dkwX2_filling_0 ++ dktX2_filling_1
theorem dksX2_filling_0 : cX2_filling.data.toList.drop 0 = dktX2_filling_0 := by decide +kernel
theorem dksX2_filling_1 : cX2_filling.data.toList.drop 22 = dktX2_filling_1 := dk_seg dksX2_filling_0 22 rfl rfl
theorem dksX2_filling_2 : cX2_filling.data.toList.drop 44 = dktX2_filling_2 := dk_seg dksX2_filling_1 22 rfl rfl
theorem dksX2_filling_3 : cX2_filling.data.toList.drop 67 = dktX2_filling_3 := dk_seg dksX2_filling_2 23 rfl rfl
theorem dX2_filling_0 : decode cX2_filling 0 = .ok (.aload_n 0, 1) := dk_42 (dk_at dksX2_filling_0 0 rfl rfl)
theorem dX2_filling_1 : decode cX2_filling 1 = .ok (.invokevirtual 80, 3) := dk_182 0 80 (dk_at dksX2_filling_0 1 rfl rfl)
theorem dX2_filling_4 : decode cX2_filling 4 = .ok (.invokevirtual 83, 3) := dk_182 0 83 (dk_at dksX2_filling_0 4 rfl rfl)
theorem dX2_filling_7 : decode cX2_filling 7 = .ok (.iconst 1, 1) := dk_4 (dk_at dksX2_filling_0 7 rfl rfl)
theorem dX2_filling_8 : decode cX2_filling 8 = .ok (.isub, 1) := dk_100 (dk_at dksX2_filling_0 8 rfl rfl)
theorem dX2_filling_9 : decode cX2_filling 9 = .ok (.iload_n 1, 1) := dk_27 (dk_at dksX2_filling_0 9 rfl rfl)
theorem dX2_filling_10 : decode cX2_filling 10 = .ok (.iconst (-1), 1) := dk_2 (dk_at dksX2_filling_0 10 rfl rfl)
theorem dX2_filling_11 : decode cX2_filling 11 = .ok (.ixor, 1) := dk_130 (dk_at dksX2_filling_0 11 rfl rfl)
theorem dX2_filling_12 : decode cX2_filling 12 = .ok (.iand, 1) := dk_126 (dk_at dksX2_filling_0 12 rfl rfl)
theorem dX2_filling_13 : decode cX2_filling 13 = .ok (.istore_n 3, 1) := dk_62 (dk_at dksX2_filling_0 13 rfl rfl)
theorem dX2_filling_14 : decode cX2_filling 14 = .ok (.iconst 0, 1) := dk_3 (dk_at dksX2_filling_0 14 rfl rfl)
theorem dX2_filling_15 : decode cX2_filling 15 = .ok (.istore 4, 2) := dk_54 4 (dk_at dksX2_filling_0 15 rfl rfl)
theorem dX2_filling_17 : decode cX2_filling 17 = .ok (.iload_n 3, 1) := dk_29 (dk_at dksX2_filling_0 17 rfl rfl)
theorem dX2_filling_18 : decode cX2_filling 18 = .ok (.istore 5, 2) := dk_54 5 (dk_at dksX2_filling_0 18 rfl rfl)
theorem dX2_filling_20 : decode cX2_filling 20 = .ok (.iload 5, 2) := dk_21 5 (dk_at dksX2_filling_0 20 rfl rfl)
theorem dX2_filling_22 : decode cX2_filling 22 = .ok (.ifCond .le 50, 3) := dk_158 0 50 (dk_at dksX2_filling_1 0 rfl rfl)
theorem dX2_filling_25 : decode cX2_filling 25 = .ok (.aload_n 0, 1) := dk_42 (dk_at dksX2_filling_1 3 rfl rfl)
theorem dX2_filling_26 : decode cX2_filling 26 = .ok (.invokevirtual 80, 3) := dk_182 0 80 (dk_at dksX2_filling_1 4 rfl rfl)
theorem dX2_filling_29 : decode cX2_filling 29 = .ok (.iload 5, 2) := dk_21 5 (dk_at dksX2_filling_1 7 rfl rfl)
theorem dX2_filling_31 : decode cX2_filling 31 = .ok (.invokevirtual 90, 3) := dk_182 0 90 (dk_at dksX2_filling_1 9 rfl rfl)
theorem dX2_filling_34 : decode cX2_filling 34 = .ok (.aload_n 0, 1) := dk_42 (dk_at dksX2_filling_1 12 rfl rfl)
theorem dX2_filling_35 : decode cX2_filling 35 = .ok (.iload_n 1, 1) := dk_27 (dk_at dksX2_filling_1 13 rfl rfl)
theorem dX2_filling_36 : decode cX2_filling 36 = .ok (.invokevirtual 94, 3) := dk_182 0 94 (dk_at dksX2_filling_1 14 rfl rfl)
theorem dX2_filling_39 : decode cX2_filling 39 = .ok (.if_icmp .gt 22, 3) := dk_163 0 22 (dk_at dksX2_filling_1 17 rfl rfl)
theorem dX2_filling_42 : decode cX2_filling 42 = .ok (.aload_n 2, 1) := dk_44 (dk_at dksX2_filling_1 20 rfl rfl)
theorem dX2_filling_43 : decode cX2_filling 43 = .ok (.aload_n 0, 1) := dk_42 (dk_at dksX2_filling_1 21 rfl rfl)
theorem dX2_filling_44 : decode cX2_filling 44 = .ok (.invokevirtual 80, 3) := dk_182 0 80 (dk_at dksX2_filling_2 0 rfl rfl)
theorem dX2_filling_47 : decode cX2_filling 47 = .ok (.iload 5, 2) := dk_21 5 (dk_at dksX2_filling_2 3 rfl rfl)
theorem dX2_filling_49 : decode cX2_filling 49 = .ok (.iload 4, 2) := dk_21 4 (dk_at dksX2_filling_2 5 rfl rfl)
theorem dX2_filling_51 : decode cX2_filling 51 = .ok (.invokevirtual 97, 3) := dk_182 0 97 (dk_at dksX2_filling_2 7 rfl rfl)
theorem dX2_filling_54 : decode cX2_filling 54 = .ok (.ifCond .eq 7, 3) := dk_153 0 7 (dk_at dksX2_filling_2 10 rfl rfl)
theorem dX2_filling_57 : decode cX2_filling 57 = .ok (.iload 5, 2) := dk_21 5 (dk_at dksX2_filling_2 13 rfl rfl)
theorem dX2_filling_59 : decode cX2_filling 59 = .ok (.istore 4, 2) := dk_54 4 (dk_at dksX2_filling_2 15 rfl rfl)
theorem dX2_filling_61 : decode cX2_filling 61 = .ok (.iload 5, 2) := dk_21 5 (dk_at dksX2_filling_2 17 rfl rfl)
theorem dX2_filling_63 : decode cX2_filling 63 = .ok (.iconst 1, 1) := dk_4 (dk_at dksX2_filling_2 19 rfl rfl)
theorem dX2_filling_64 : decode cX2_filling 64 = .ok (.isub, 1) := dk_100 (dk_at dksX2_filling_2 20 rfl rfl)
theorem dX2_filling_65 : decode cX2_filling 65 = .ok (.iload_n 3, 1) := dk_29 (dk_at dksX2_filling_2 21 rfl rfl)
theorem dX2_filling_66 : decode cX2_filling 66 = .ok (.iand, 1) := dk_126 (dk_at dksX2_filling_2 22 rfl rfl)
theorem dX2_filling_67 : decode cX2_filling 67 = .ok (.istore 5, 2) := dk_54 5 (dk_at dksX2_filling_3 0 rfl rfl)
theorem dX2_filling_69 : decode cX2_filling 69 = .ok (.goto (-49), 3) := dk_167 255 207 (dk_at dksX2_filling_3 2 rfl rfl)
theorem dX2_filling_72 : decode cX2_filling 72 = .ok (.iload 4, 2) := dk_21 4 (dk_at dksX2_filling_3 5 rfl rfl)
theorem dX2_filling_74 : decode cX2_filling 74 = .ok (.ireturn, 1) := dk_172 (dk_at dksX2_filling_3 7 rfl rfl)
/-- PackingDuel$State.filling(ILPackingDuel$Taste;)I -/
def zb88 (G : zPg) (C : zO) (args : List Value) (Q : zQ) (Y : zY) (σ : zS) : Prop := ∃ (a0 : Nat) (x1 : Int32) (x2 : Option Nat), args = [.ref a0, .int x1, va_rf x2] ∧ (zrc σ (some a0) 1 (fun a4 => zcl C 83 [.ref a4] Y σ (zqR (fun v1 s2 => zrc s2 v1 14 (fun a11 => zcl C 452 [.ref a11] Y s2 (zqI (fun v8 s9 => (∀ v15 : Int32, v15 = ((v8 - (1 : Int32)) &&& (x1 ^^^ (-1 : Int32))) → ∃ n, zIt (fun _ _ _ => False) (fun rec20 (p17 : Int32) (p18 : Int32) (s19 : zS) => ((p18 ≤ 0) → Q (some (.int p17)) s19) ∧ ((¬ p18 ≤ 0) → zrc s19 (some a0) 1 (fun a25 => zcl C 83 [.ref a25] Y s19 (zqR (fun v22 s23 => zrc s23 v22 14 (fun a32 => zcl C 453 [.ref a32, .int p18] Y s23 (zqI (fun v29 s30 => zrc s30 (some a0) 1 (fun a39 => zcl C 86 [.ref a39, .int x1] Y s30 (zqI (fun v36 s37 => zJ (fun (p43 : Int32) (s44 : zS) => rec20 p43 ((p18 - (1 : Int32)) &&& v15) s44) (fun (j45 : Int32 → zS → Prop) => ((v36 < v29) → j45 p17 s37) ∧ ((¬ v36 < v29) → zrc s37 (some a0) 1 (fun a50 => zcl C 83 [.ref a50] Y s37 (zqR (fun v47 s48 => zJ (fun (v54 : Int32) (s55 : zS) => ((v54 = 0) → j45 p17 s55) ∧ ((¬ v54 = 0) → j45 p18 s55)) (fun (j57 : Int32 → zS → Prop) => zrcM s48 x2 [17, 21] (fun a58 c59 => (c59 = 17 → zcl C 460 [.ref a58, va_rf v47, .int p18, .int p17] Y s48 (zqI j57)) ∧ (c59 = 21 → zcl C 492 [.ref a58, va_rf v47, .int p18, .int p17] Y s48 (zqI j57)))))))))))))))))))) n (0 : Int32) v15 s9))))))))
set_option maxHeartbeats 4000000 in
theorem wk88 {l : Launch} {g : zG} {d : Nat} {C : zO} (hG : zGk g) (hC : zSound l g d C) {args : List Value} {Q : zQ} {Y : zY} {σ : zS} (hw : zb88 (zpg g) C args Q Y σ) : zMet l g (d + 1) (⟨"PackingDuel$State", "filling", "(ILPackingDuel$Taste;)I"⟩, Cond.code ⟨"PackingDuel$State", "filling", "(ILPackingDuel$Taste;)I"⟩ prog_20_method_8_code 6 (Option.some FieldType.int)) args σ Q Y := by
  obtain ⟨a0, x1, x2, rfl, hw⟩ := hw
  refine zof hG (by decide +kernel) [false, false, false] ⟨rfl, rfl, (zc_rf _), trivial⟩ (Nat.le_of_ble_eq_true rfl) (ls := [some (va_rf (some a0)), some (.int x1), some (va_rf x2), none, none, none]) rfl ?_
  intro X hX hR hTb hd1 hd2 hl hg hnm
  subst hl
  subst hg
  have hd : zDep X d := ⟨hd1, hd2⟩
  refine z_aload_n hX dX2_filling_0 rfl (i := 0) rfl ?_
  obtain ⟨a4, f5, r6, m7, hw⟩ := hw
  refine z_invV hX hd r6 (ci := 1) rfl rfl m7 dX2_filling_1 (hC 83 _ zm83 _ _ _ _ hw) q351 q352 q353 zh2 q354 q131 zn83 rfl (Nat.le_of_ble_eq_true rfl) (st := []) rfl (zcs8 (Nat.le_of_ble_eq_true rfl)) rfl (zkR (fun v1 s2 hw => ?_)) (zout hX hR hTb)
  obtain ⟨a11, f12, r13, m14, hw⟩ := hw
  refine z_invV hX hd r13 (ci := 14) rfl rfl m14 dX2_filling_4 (hC 452 _ zm452 _ _ _ _ hw) q395 q396 q397 zh30 q398 q161 zn452 rfl (Nat.le_of_ble_eq_true rfl) (st := []) rfl (zcs8 (Nat.le_of_ble_eq_true rfl)) rfl (zkI (fun v8 s9 hw => ?_)) (zout hX hR hTb)
  refine z_iconst hX (v := (1 : Int32)) dX2_filling_7 (by decide) ?_
  refine z_isub hX dX2_filling_8 ?_
  refine z_iload_n hX dX2_filling_9 rfl (i := 1) rfl ?_
  refine z_iconst hX (v := (-1 : Int32)) dX2_filling_10 (by decide) ?_
  refine z_ixor hX dX2_filling_11 ?_
  refine z_iand hX dX2_filling_12 ?_
  refine z_topi (fun v15 e16 => ?_)
  have hw := hw v15 e16
  refine z_istore_n hX dX2_filling_13 rfl (i := 3) (Nat.le_of_ble_eq_true rfl) (zc_rf _) (ls2 := [some (va_rf (some a0)), some (.int x1), some (va_rf x2), some (.int v15), none, none]) rfl ?_
  refine z_iconst hX (v := (0 : Int32)) dX2_filling_14 (by decide) ?_
  refine z_istore hX dX2_filling_15 (i := 4) (Nat.le_of_ble_eq_true rfl) rfl (ls2 := [some (va_rf (some a0)), some (.int x1), some (va_rf x2), some (.int v15), some (.int (0 : Int32)), none]) rfl ?_
  refine z_iload_n hX dX2_filling_17 rfl (i := 3) rfl ?_
  refine z_istore hX dX2_filling_18 (i := 5) (Nat.le_of_ble_eq_true rfl) rfl (ls2 := [some (va_rf (some a0)), some (.int x1), some (va_rf x2), some (.int v15), some (.int (0 : Int32)), some (.int v15)]) rfl ?_
  obtain ⟨n65, hw⟩ := hw
  refine zIt_w (P := fun (j : Int32 → Int32 → zS → Prop) => ∀ (p17 : Int32) (p18 : Int32) (s19 : zS), j p17 p18 s19 → zW X s19 20 [some (va_rf (some a0)), some (.int x1), some (va_rf x2), some (.int v15), some (.int p17), some (.int p18)] []) (fun _ _ _ h => h.elim) (fun rec20 hrec20 p17 p18 s19 hw => ?_) n65 _ _ _ hw
  refine z_iload hX dX2_filling_20 (i := 5) rfl ?_
  refine z_if_le hX dX2_filling_22 (tgt := 72) rfl (fun c21 => ?_) (fun c21 => ?_)
  · have hw := hw.1 c21
    refine z_iload hX dX2_filling_72 (i := 4) rfl ?_
    exact z_ireturn hX hR dX2_filling_74 rfl hw
  · have hw := hw.2 c21
    refine z_aload_n hX dX2_filling_25 rfl (i := 0) rfl ?_
    obtain ⟨a25, f26, r27, m28, hw⟩ := hw
    refine z_invV hX hd r27 (ci := 1) rfl rfl m28 dX2_filling_26 (hC 83 _ zm83 _ _ _ _ hw) q351 q352 q353 zh2 q354 q131 zn83 rfl (Nat.le_of_ble_eq_true rfl) (st := []) rfl (zcs8 (Nat.le_of_ble_eq_true rfl)) rfl (zkR (fun v22 s23 hw => ?_)) (zout hX hR hTb)
    refine z_iload hX dX2_filling_29 (i := 5) rfl ?_
    obtain ⟨a32, f33, r34, m35, hw⟩ := hw
    refine z_invV hX hd r34 (ci := 14) rfl rfl m35 dX2_filling_31 (hC 453 _ zm453 _ _ _ _ hw) q403 q404 q405 zh30 q406 q161 zn453 rfl (Nat.le_of_ble_eq_true rfl) (st := []) rfl (zcs8 (Nat.le_of_ble_eq_true rfl)) rfl (zkI (fun v29 s30 hw => ?_)) (zout hX hR hTb)
    refine z_aload_n hX dX2_filling_34 rfl (i := 0) rfl ?_
    refine z_iload_n hX dX2_filling_35 rfl (i := 1) rfl ?_
    obtain ⟨a39, f40, r41, m42, hw⟩ := hw
    refine z_invV hX hd r41 (ci := 1) rfl rfl m42 dX2_filling_36 (hC 86 _ zm86 _ _ _ _ hw) q411 q412 q413 zh2 q414 q131 zn86 rfl (Nat.le_of_ble_eq_true rfl) (st := [.int v29]) rfl (zcs8 (Nat.le_of_ble_eq_true rfl)) rfl (zkI (fun v36 s37 hw => ?_)) (zout hX hR hTb)
    refine zJ_w (P := fun (j : Int32 → zS → Prop) => ∀ (p43 : Int32) (s44 : zS), j p43 s44 → zW X s44 61 [some (va_rf (some a0)), some (.int x1), some (va_rf x2), some (.int v15), some (.int p43), some (.int p18)] []) hw (fun p43 s44 hw => ?_) (fun j45 hj45 hw => ?_)
    · refine z_iload hX dX2_filling_61 (i := 5) rfl ?_
      refine z_iconst hX (v := (1 : Int32)) dX2_filling_63 (by decide) ?_
      refine z_isub hX dX2_filling_64 ?_
      refine z_iload_n hX dX2_filling_65 rfl (i := 3) rfl ?_
      refine z_iand hX dX2_filling_66 ?_
      refine z_istore hX dX2_filling_67 (i := 5) (Nat.le_of_ble_eq_true rfl) rfl (ls2 := [some (va_rf (some a0)), some (.int x1), some (va_rf x2), some (.int v15), some (.int p43), some (.int ((p18 - (1 : Int32)) &&& v15))]) rfl ?_
      refine z_goto hX dX2_filling_69 (tgt := 20) rfl ?_
      exact hrec20 _ _ _ hw
    · refine z_icmp_gt hX dX2_filling_39 (tgt := 61) rfl (fun c46 => ?_) (fun c46 => ?_)
      · have hw := hw.1 c46
        exact hj45 _ _ hw
      · have hw := hw.2 c46
        refine z_aload_n hX dX2_filling_42 rfl (i := 2) rfl ?_
        refine z_aload_n hX dX2_filling_43 rfl (i := 0) rfl ?_
        obtain ⟨a50, f51, r52, m53, hw⟩ := hw
        refine z_invV hX hd r52 (ci := 1) rfl rfl m53 dX2_filling_44 (hC 83 _ zm83 _ _ _ _ hw) q351 q352 q353 zh2 q354 q131 zn83 rfl (Nat.le_of_ble_eq_true rfl) (st := [va_rf x2]) rfl (zcs8 (Nat.le_of_ble_eq_true rfl)) rfl (zkR (fun v47 s48 hw => ?_)) (zout hX hR hTb)
        refine z_iload hX dX2_filling_47 (i := 5) rfl ?_
        refine z_iload hX dX2_filling_49 (i := 4) rfl ?_
        refine zJ_v (P := fun (j : Int32 → zS → Prop) => ∀ (v54 : Int32) (s55 : zS), j v54 s55 → zW X s55 54 [some (va_rf (some a0)), some (.int x1), some (va_rf x2), some (.int v15), some (.int p17), some (.int p18)] [.int v54]) hw (fun j57 hj57 hw => ?_) (fun v54 s55 hw => ?_)
        · obtain ⟨a58, c59, f60, r61, h62, m63, hw⟩ := hw
          simp only [List.mem_cons, List.not_mem_nil, or_false] at h62
          rcases h62 with rfl | rfl
          · have hw := hw.1 rfl
            refine z_invVU hX hd r61 (ci := 17) rfl rfl m63 dX2_filling_51 (hC 460 _ zm460 _ _ _ _ hw) q436 q438 (z_declA hX q437) q443 q442 zh34 q444 q167 (zn460) rfl (Nat.le_of_ble_eq_true rfl) (st := []) rfl (zcs8 (Nat.le_of_ble_eq_true rfl)) rfl (zkI (fun v54 s55 hw => ?_)) (zout hX hR hTb)
            exact hj57 _ _ hw
          · have hw := hw.2 rfl
            refine z_invVU hX hd r61 (ci := 21) rfl rfl m63 dX2_filling_51 (hC 492 _ zm492 _ _ _ _ hw) q436 q438 (z_declA hX q437) q440 q439 zh34 q441 q175 (zn492) rfl (Nat.le_of_ble_eq_true rfl) (st := []) rfl (zcs8 (Nat.le_of_ble_eq_true rfl)) rfl (zkI (fun v54 s55 hw => ?_)) (zout hX hR hTb)
            exact hj57 _ _ hw
        refine z_if_eq hX dX2_filling_54 (tgt := 61) rfl (fun c64 => ?_) (fun c64 => ?_)
        · have hw := hw.1 c64
          exact hj45 _ _ hw
        · have hw := hw.2 c64
          refine z_iload hX dX2_filling_57 (i := 5) rfl ?_
          refine z_istore hX dX2_filling_59 (i := 4) (Nat.le_of_ble_eq_true rfl) rfl (ls2 := [some (va_rf (some a0)), some (.int x1), some (va_rf x2), some (.int v15), some (.int p18), some (.int p18)]) rfl ?_
          exact hj45 _ _ hw
abbrev cX2_safestPlan : ByteArray := prog_20_method_16_code
def yX2_safestPlan : MethodName := ⟨RX2, "safestPlan", "()I"⟩
def dkwX2_safestPlan_4 : List UInt8 := [163, 0, 6, 167, 0, 9, 21, 4, 61, 21, 5, 62, 132, 4, 1, 167, 255, 160, 28, 172]
abbrev dktX2_safestPlan_4 : List UInt8 := dkwX2_safestPlan_4 ++ []
def dkwX2_safestPlan_3 : List UInt8 := [180, 0, 122, 6, 50, 42, 21, 4, 43, 182, 0, 115, 46, 100, 54, 5, 28, 2, 159, 0, 12, 21, 5, 29]
abbrev dktX2_safestPlan_3 : List UInt8 := dkwX2_safestPlan_3 ++ dktX2_safestPlan_4
def dkwX2_safestPlan_2 : List UInt8 := [21, 4, 46, 42, 21, 4, 182, 0, 94, 42, 180, 0, 45, 162, 0, 7, 3, 167, 0, 20, 42, 182, 0, 80]
abbrev dktX2_safestPlan_2 : List UInt8 := dkwX2_safestPlan_2 ++ dktX2_safestPlan_3
def dkwX2_safestPlan_1 : List UInt8 := [162, 0, 90, 42, 21, 4, 182, 0, 111, 154, 0, 6, 167, 0, 72, 42, 182, 0, 80, 180, 0, 122, 4, 50]
abbrev dktX2_safestPlan_1 : List UInt8 := dkwX2_safestPlan_1 ++ dktX2_safestPlan_2
def dkwX2_safestPlan_0 : List UInt8 := [187, 0, 158, 89, 183, 0, 160, 76, 2, 61, 3, 62, 3, 54, 4, 21, 4, 42, 182, 0, 80, 182, 0, 83]
abbrev dktX2_safestPlan_0 : List UInt8 := dkwX2_safestPlan_0 ++ dktX2_safestPlan_1
theorem dksX2_safestPlan_0 : cX2_safestPlan.data.toList.drop 0 = dktX2_safestPlan_0 := by decide +kernel
theorem dksX2_safestPlan_1 : cX2_safestPlan.data.toList.drop 24 = dktX2_safestPlan_1 := dk_seg dksX2_safestPlan_0 24 rfl rfl
theorem dksX2_safestPlan_2 : cX2_safestPlan.data.toList.drop 48 = dktX2_safestPlan_2 := dk_seg dksX2_safestPlan_1 24 rfl rfl
theorem dksX2_safestPlan_3 : cX2_safestPlan.data.toList.drop 72 = dktX2_safestPlan_3 := dk_seg dksX2_safestPlan_2 24 rfl rfl
theorem dksX2_safestPlan_4 : cX2_safestPlan.data.toList.drop 96 = dktX2_safestPlan_4 := dk_seg dksX2_safestPlan_3 24 rfl rfl
theorem dX2_safestPlan_0 : decode cX2_safestPlan 0 = .ok (.new 158, 3) := dk_187 0 158 (dk_at dksX2_safestPlan_0 0 rfl rfl)
theorem dX2_safestPlan_3 : decode cX2_safestPlan 3 = .ok (.dup, 1) := dk_89 (dk_at dksX2_safestPlan_0 3 rfl rfl)
theorem dX2_safestPlan_4 : decode cX2_safestPlan 4 = .ok (.invokespecial 160, 3) := dk_183 0 160 (dk_at dksX2_safestPlan_0 4 rfl rfl)
theorem dX2_safestPlan_7 : decode cX2_safestPlan 7 = .ok (.astore_n 1, 1) := dk_76 (dk_at dksX2_safestPlan_0 7 rfl rfl)
theorem dX2_safestPlan_8 : decode cX2_safestPlan 8 = .ok (.iconst (-1), 1) := dk_2 (dk_at dksX2_safestPlan_0 8 rfl rfl)
theorem dX2_safestPlan_9 : decode cX2_safestPlan 9 = .ok (.istore_n 2, 1) := dk_61 (dk_at dksX2_safestPlan_0 9 rfl rfl)
theorem dX2_safestPlan_10 : decode cX2_safestPlan 10 = .ok (.iconst 0, 1) := dk_3 (dk_at dksX2_safestPlan_0 10 rfl rfl)
theorem dX2_safestPlan_11 : decode cX2_safestPlan 11 = .ok (.istore_n 3, 1) := dk_62 (dk_at dksX2_safestPlan_0 11 rfl rfl)
theorem dX2_safestPlan_12 : decode cX2_safestPlan 12 = .ok (.iconst 0, 1) := dk_3 (dk_at dksX2_safestPlan_0 12 rfl rfl)
theorem dX2_safestPlan_13 : decode cX2_safestPlan 13 = .ok (.istore 4, 2) := dk_54 4 (dk_at dksX2_safestPlan_0 13 rfl rfl)
theorem dX2_safestPlan_15 : decode cX2_safestPlan 15 = .ok (.iload 4, 2) := dk_21 4 (dk_at dksX2_safestPlan_0 15 rfl rfl)
theorem dX2_safestPlan_17 : decode cX2_safestPlan 17 = .ok (.aload_n 0, 1) := dk_42 (dk_at dksX2_safestPlan_0 17 rfl rfl)
theorem dX2_safestPlan_18 : decode cX2_safestPlan 18 = .ok (.invokevirtual 80, 3) := dk_182 0 80 (dk_at dksX2_safestPlan_0 18 rfl rfl)
theorem dX2_safestPlan_21 : decode cX2_safestPlan 21 = .ok (.invokevirtual 83, 3) := dk_182 0 83 (dk_at dksX2_safestPlan_0 21 rfl rfl)
theorem dX2_safestPlan_24 : decode cX2_safestPlan 24 = .ok (.if_icmp .ge 90, 3) := dk_162 0 90 (dk_at dksX2_safestPlan_1 0 rfl rfl)
theorem dX2_safestPlan_27 : decode cX2_safestPlan 27 = .ok (.aload_n 0, 1) := dk_42 (dk_at dksX2_safestPlan_1 3 rfl rfl)
theorem dX2_safestPlan_28 : decode cX2_safestPlan 28 = .ok (.iload 4, 2) := dk_21 4 (dk_at dksX2_safestPlan_1 4 rfl rfl)
theorem dX2_safestPlan_30 : decode cX2_safestPlan 30 = .ok (.invokevirtual 111, 3) := dk_182 0 111 (dk_at dksX2_safestPlan_1 6 rfl rfl)
theorem dX2_safestPlan_33 : decode cX2_safestPlan 33 = .ok (.ifCond .ne 6, 3) := dk_154 0 6 (dk_at dksX2_safestPlan_1 9 rfl rfl)
theorem dX2_safestPlan_36 : decode cX2_safestPlan 36 = .ok (.goto 72, 3) := dk_167 0 72 (dk_at dksX2_safestPlan_1 12 rfl rfl)
theorem dX2_safestPlan_39 : decode cX2_safestPlan 39 = .ok (.aload_n 0, 1) := dk_42 (dk_at dksX2_safestPlan_1 15 rfl rfl)
theorem dX2_safestPlan_40 : decode cX2_safestPlan 40 = .ok (.invokevirtual 80, 3) := dk_182 0 80 (dk_at dksX2_safestPlan_1 16 rfl rfl)
theorem dX2_safestPlan_43 : decode cX2_safestPlan 43 = .ok (.getfield 122, 3) := dk_180 0 122 (dk_at dksX2_safestPlan_1 19 rfl rfl)
theorem dX2_safestPlan_46 : decode cX2_safestPlan 46 = .ok (.iconst 1, 1) := dk_4 (dk_at dksX2_safestPlan_1 22 rfl rfl)
theorem dX2_safestPlan_47 : decode cX2_safestPlan 47 = .ok (.aaload, 1) := dk_50 (dk_at dksX2_safestPlan_1 23 rfl rfl)
theorem dX2_safestPlan_48 : decode cX2_safestPlan 48 = .ok (.iload 4, 2) := dk_21 4 (dk_at dksX2_safestPlan_2 0 rfl rfl)
theorem dX2_safestPlan_50 : decode cX2_safestPlan 50 = .ok (.iaload, 1) := dk_46 (dk_at dksX2_safestPlan_2 2 rfl rfl)
theorem dX2_safestPlan_51 : decode cX2_safestPlan 51 = .ok (.aload_n 0, 1) := dk_42 (dk_at dksX2_safestPlan_2 3 rfl rfl)
theorem dX2_safestPlan_52 : decode cX2_safestPlan 52 = .ok (.iload 4, 2) := dk_21 4 (dk_at dksX2_safestPlan_2 4 rfl rfl)
theorem dX2_safestPlan_54 : decode cX2_safestPlan 54 = .ok (.invokevirtual 94, 3) := dk_182 0 94 (dk_at dksX2_safestPlan_2 6 rfl rfl)
theorem dX2_safestPlan_57 : decode cX2_safestPlan 57 = .ok (.aload_n 0, 1) := dk_42 (dk_at dksX2_safestPlan_2 9 rfl rfl)
theorem dX2_safestPlan_58 : decode cX2_safestPlan 58 = .ok (.getfield 45, 3) := dk_180 0 45 (dk_at dksX2_safestPlan_2 10 rfl rfl)
theorem dX2_safestPlan_61 : decode cX2_safestPlan 61 = .ok (.if_icmp .ge 7, 3) := dk_162 0 7 (dk_at dksX2_safestPlan_2 13 rfl rfl)
theorem dX2_safestPlan_64 : decode cX2_safestPlan 64 = .ok (.iconst 0, 1) := dk_3 (dk_at dksX2_safestPlan_2 16 rfl rfl)
theorem dX2_safestPlan_65 : decode cX2_safestPlan 65 = .ok (.goto 20, 3) := dk_167 0 20 (dk_at dksX2_safestPlan_2 17 rfl rfl)
theorem dX2_safestPlan_68 : decode cX2_safestPlan 68 = .ok (.aload_n 0, 1) := dk_42 (dk_at dksX2_safestPlan_2 20 rfl rfl)
theorem dX2_safestPlan_69 : decode cX2_safestPlan 69 = .ok (.invokevirtual 80, 3) := dk_182 0 80 (dk_at dksX2_safestPlan_2 21 rfl rfl)
theorem dX2_safestPlan_72 : decode cX2_safestPlan 72 = .ok (.getfield 122, 3) := dk_180 0 122 (dk_at dksX2_safestPlan_3 0 rfl rfl)
theorem dX2_safestPlan_75 : decode cX2_safestPlan 75 = .ok (.iconst 3, 1) := dk_6 (dk_at dksX2_safestPlan_3 3 rfl rfl)
theorem dX2_safestPlan_76 : decode cX2_safestPlan 76 = .ok (.aaload, 1) := dk_50 (dk_at dksX2_safestPlan_3 4 rfl rfl)
theorem dX2_safestPlan_77 : decode cX2_safestPlan 77 = .ok (.aload_n 0, 1) := dk_42 (dk_at dksX2_safestPlan_3 5 rfl rfl)
theorem dX2_safestPlan_78 : decode cX2_safestPlan 78 = .ok (.iload 4, 2) := dk_21 4 (dk_at dksX2_safestPlan_3 6 rfl rfl)
theorem dX2_safestPlan_80 : decode cX2_safestPlan 80 = .ok (.aload_n 1, 1) := dk_43 (dk_at dksX2_safestPlan_3 8 rfl rfl)
theorem dX2_safestPlan_81 : decode cX2_safestPlan 81 = .ok (.invokevirtual 115, 3) := dk_182 0 115 (dk_at dksX2_safestPlan_3 9 rfl rfl)
theorem dX2_safestPlan_84 : decode cX2_safestPlan 84 = .ok (.iaload, 1) := dk_46 (dk_at dksX2_safestPlan_3 12 rfl rfl)
theorem dX2_safestPlan_85 : decode cX2_safestPlan 85 = .ok (.isub, 1) := dk_100 (dk_at dksX2_safestPlan_3 13 rfl rfl)
theorem dX2_safestPlan_86 : decode cX2_safestPlan 86 = .ok (.istore 5, 2) := dk_54 5 (dk_at dksX2_safestPlan_3 14 rfl rfl)
theorem dX2_safestPlan_88 : decode cX2_safestPlan 88 = .ok (.iload_n 2, 1) := dk_28 (dk_at dksX2_safestPlan_3 16 rfl rfl)
theorem dX2_safestPlan_89 : decode cX2_safestPlan 89 = .ok (.iconst (-1), 1) := dk_2 (dk_at dksX2_safestPlan_3 17 rfl rfl)
theorem dX2_safestPlan_90 : decode cX2_safestPlan 90 = .ok (.if_icmp .eq 12, 3) := dk_159 0 12 (dk_at dksX2_safestPlan_3 18 rfl rfl)
theorem dX2_safestPlan_93 : decode cX2_safestPlan 93 = .ok (.iload 5, 2) := dk_21 5 (dk_at dksX2_safestPlan_3 21 rfl rfl)
theorem dX2_safestPlan_95 : decode cX2_safestPlan 95 = .ok (.iload_n 3, 1) := dk_29 (dk_at dksX2_safestPlan_3 23 rfl rfl)
theorem dX2_safestPlan_96 : decode cX2_safestPlan 96 = .ok (.if_icmp .gt 6, 3) := dk_163 0 6 (dk_at dksX2_safestPlan_4 0 rfl rfl)
theorem dX2_safestPlan_99 : decode cX2_safestPlan 99 = .ok (.goto 9, 3) := dk_167 0 9 (dk_at dksX2_safestPlan_4 3 rfl rfl)
theorem dX2_safestPlan_102 : decode cX2_safestPlan 102 = .ok (.iload 4, 2) := dk_21 4 (dk_at dksX2_safestPlan_4 6 rfl rfl)
theorem dX2_safestPlan_104 : decode cX2_safestPlan 104 = .ok (.istore_n 2, 1) := dk_61 (dk_at dksX2_safestPlan_4 8 rfl rfl)
theorem dX2_safestPlan_105 : decode cX2_safestPlan 105 = .ok (.iload 5, 2) := dk_21 5 (dk_at dksX2_safestPlan_4 9 rfl rfl)
theorem dX2_safestPlan_107 : decode cX2_safestPlan 107 = .ok (.istore_n 3, 1) := dk_62 (dk_at dksX2_safestPlan_4 11 rfl rfl)
theorem dX2_safestPlan_108 : decode cX2_safestPlan 108 = .ok (.iinc 4 1, 3) := dk_132 4 1 (dk_at dksX2_safestPlan_4 12 rfl rfl)
theorem dX2_safestPlan_111 : decode cX2_safestPlan 111 = .ok (.goto (-96), 3) := dk_167 255 160 (dk_at dksX2_safestPlan_4 15 rfl rfl)
theorem dX2_safestPlan_114 : decode cX2_safestPlan 114 = .ok (.iload_n 2, 1) := dk_28 (dk_at dksX2_safestPlan_4 18 rfl rfl)
theorem dX2_safestPlan_115 : decode cX2_safestPlan 115 = .ok (.ireturn, 1) := dk_172 (dk_at dksX2_safestPlan_4 19 rfl rfl)
/-- PackingDuel$State.safestPlan()I -/
def zb89 (G : zPg) (C : zO) (args : List Value) (Q : zQ) (Y : zY) (σ : zS) : Prop := ∃ (a0 : Nat), args = [.ref a0] ∧ (znew σ 21 [] 0 (fun s1 => (∃ a7, (some σ.2.1) = some a7 ∧ zcl C 493 [.ref a7] Y s1 (zqV (fun s5 => ∃ n, zIt (fun _ _ _ _ => False) (fun rec13 (p9 : Int32) (p10 : Int32) (p11 : Int32) (s12 : zS) => zrc s12 (some a0) 1 (fun a17 => zcl C 83 [.ref a17] Y s12 (zqR (fun v14 s15 => zrc s15 v14 14 (fun a24 => zcl C 452 [.ref a24] Y s15 (zqI (fun v21 s22 => ((v21 ≤ p11) → Q (some (.int p9)) s22) ∧ ((¬ v21 ≤ p11) → zrc s22 (some a0) 1 (fun a32 => zcl C 84 [.ref a32, .int p11] Y s22 (zqI (fun v29 s30 => zJ (fun (p36 : Int32) (p37 : Int32) (s38 : zS) => (∀ v40 : Int32, v40 = p11 + (1 : Int32) → rec13 p36 p37 v40 s38)) (fun (j39 : Int32 → Int32 → zS → Prop) => ((¬ v29 = 0) → zrc s30 (some a0) 1 (fun a46 => zcl C 83 [.ref a46] Y s30 (zqR (fun v43 s44 => zgR s44 v43 14 0 (fun v50 => zaR s44 5 v50 (1 : Int32) (fun v62 => zaI s44 0 v62 p11 (fun v70 => zrc s44 (some a0) 1 (fun a75 => zcl C 86 [.ref a75, .int p11] Y s44 (zqI (fun v72 s73 => zgI s73 (some a0) 1 4 (fun v79 => zJ (fun (p85 : Int32) (s86 : zS) => zJ (fun  (s88 : zS) => j39 p11 (v70 - p85) s88) (fun (j89 : zS → Prop) => ((p9 = (-1 : Int32)) → j89 s86) ∧ ((¬ p9 = (-1 : Int32)) → ((p10 < (v70 - p85)) → j89 s86) ∧ ((¬ p10 < (v70 - p85)) → j39 p9 p10 s86)))) (fun (j87 : Int32 → zS → Prop) => ((v79 ≤ v72) → zrc s73 (some a0) 1 (fun a96 => zcl C 83 [.ref a96] Y s73 (zqR (fun v93 s94 => zgR s94 v93 14 0 (fun v100 => zaR s94 5 v100 (3 : Int32) (fun v112 => zrc s94 (some a0) 1 (fun a117 => zcl C 88 [.ref a117, .int p11, va_rf (some σ.2.1)] Y s94 (zqI (fun v114 s115 => zaI s115 0 v112 v114 (fun v127 => j87 v127 s115)))))))))) ∧ ((¬ v79 ≤ v72) → j87 (0 : Int32) s73))))))))))))) ∧ ((v29 = 0) → j39 p9 p10 s30))))))))))))) n (-1 : Int32) (0 : Int32) (0 : Int32) s5)))))
set_option maxHeartbeats 4000000 in
theorem wk89 {l : Launch} {g : zG} {d : Nat} {C : zO} (hG : zGk g) (hC : zSound l g d C) {args : List Value} {Q : zQ} {Y : zY} {σ : zS} (hw : zb89 (zpg g) C args Q Y σ) : zMet l g (d + 1) (⟨"PackingDuel$State", "safestPlan", "()I"⟩, Cond.code ⟨"PackingDuel$State", "safestPlan", "()I"⟩ prog_20_method_16_code 6 (Option.some FieldType.int)) args σ Q Y := by
  obtain ⟨a0, rfl, hw⟩ := hw
  refine zof hG (by decide +kernel) [false] ⟨rfl, trivial⟩ (Nat.le_of_ble_eq_true rfl) (ls := [some (va_rf (some a0)), none, none, none, none, none]) rfl ?_
  intro X hX hR hTb hd1 hd2 hl hg hnm
  subst hl
  subst hg
  have hd : zDep X d := ⟨hd1, hd2⟩
  refine z_new hX zc21 dX2_safestPlan_0 q460 q461 q175 (fs := []) (fun j hj => absurd hj (Nat.not_lt_zero _)) hw.1 hw.2.1 (fun z2 => z_nm (fun s1 e3 => ?_))
  have hw := hw.2.2 z2 s1 e3
  refine z_dup hX dX2_safestPlan_3 (zc_rf _) ?_
  obtain ⟨a7, r8, hw⟩ := hw
  refine z_invIN hX hd r8 dX2_safestPlan_4 (hC 493 _ zm493 _ _ _ _ hw) q462 q463 rfl zh42 q464 q175 zn493 rfl (Nat.le_of_ble_eq_true rfl) (st := [va_rf (some σ.2.1)]) rfl (zcs8 (Nat.le_of_ble_eq_true rfl)) rfl (zkV (fun s5 hw => ?_)) (zout hX hR hTb)
  refine z_astore_n hX dX2_safestPlan_7 rfl (i := 1) (Nat.le_of_ble_eq_true rfl) (zc_rf _) (ls2 := [some (va_rf (some a0)), some (va_rf (some σ.2.1)), none, none, none, none]) rfl ?_
  refine z_iconst hX (v := (-1 : Int32)) dX2_safestPlan_8 (by decide) ?_
  refine z_istore_n hX dX2_safestPlan_9 rfl (i := 2) (Nat.le_of_ble_eq_true rfl) (zc_rf _) (ls2 := [some (va_rf (some a0)), some (va_rf (some σ.2.1)), some (.int (-1 : Int32)), none, none, none]) rfl ?_
  refine z_iconst hX (v := (0 : Int32)) dX2_safestPlan_10 (by decide) ?_
  refine z_istore_n hX dX2_safestPlan_11 rfl (i := 3) (Nat.le_of_ble_eq_true rfl) rfl (ls2 := [some (va_rf (some a0)), some (va_rf (some σ.2.1)), some (.int (-1 : Int32)), some (.int (0 : Int32)), none, none]) rfl ?_
  refine z_iconst hX (v := (0 : Int32)) dX2_safestPlan_12 (by decide) ?_
  refine z_istore hX dX2_safestPlan_13 (i := 4) (Nat.le_of_ble_eq_true rfl) rfl (ls2 := [some (va_rf (some a0)), some (va_rf (some σ.2.1)), some (.int (-1 : Int32)), some (.int (0 : Int32)), some (.int (0 : Int32)), none]) rfl ?_
  obtain ⟨n129, hw⟩ := hw
  refine zIt_w (P := fun (j : Int32 → Int32 → Int32 → zS → Prop) => ∀ (p9 : Int32) (p10 : Int32) (p11 : Int32) (s12 : zS), j p9 p10 p11 s12 → zW X s12 15 [some (va_rf (some a0)), some (va_rf (some σ.2.1)), some (.int p9), some (.int p10), some (.int p11), none] []) (fun _ _ _ _ h => h.elim) (fun rec13 hrec13 p9 p10 p11 s12 hw => ?_) n129 _ _ _ _ hw
  refine z_iload hX dX2_safestPlan_15 (i := 4) rfl ?_
  refine z_aload_n hX dX2_safestPlan_17 rfl (i := 0) rfl ?_
  obtain ⟨a17, f18, r19, m20, hw⟩ := hw
  refine z_invV hX hd r19 (ci := 1) rfl rfl m20 dX2_safestPlan_18 (hC 83 _ zm83 _ _ _ _ hw) q351 q352 q353 zh2 q354 q131 zn83 rfl (Nat.le_of_ble_eq_true rfl) (st := [.int p11]) rfl (zcs8 (Nat.le_of_ble_eq_true rfl)) rfl (zkR (fun v14 s15 hw => ?_)) (zout hX hR hTb)
  obtain ⟨a24, f25, r26, m27, hw⟩ := hw
  refine z_invV hX hd r26 (ci := 14) rfl rfl m27 dX2_safestPlan_21 (hC 452 _ zm452 _ _ _ _ hw) q395 q396 q397 zh30 q398 q161 zn452 rfl (Nat.le_of_ble_eq_true rfl) (st := [.int p11]) rfl (zcs8 (Nat.le_of_ble_eq_true rfl)) rfl (zkI (fun v21 s22 hw => ?_)) (zout hX hR hTb)
  refine z_icmp_ge hX dX2_safestPlan_24 (tgt := 114) rfl (fun c28 => ?_) (fun c28 => ?_)
  · have hw := hw.1 c28
    refine z_iload_n hX dX2_safestPlan_114 rfl (i := 2) rfl ?_
    exact z_ireturn hX hR dX2_safestPlan_115 rfl hw
  · have hw := hw.2 c28
    refine z_aload_n hX dX2_safestPlan_27 rfl (i := 0) rfl ?_
    refine z_iload hX dX2_safestPlan_28 (i := 4) rfl ?_
    obtain ⟨a32, f33, r34, m35, hw⟩ := hw
    refine z_invV hX hd r34 (ci := 1) rfl rfl m35 dX2_safestPlan_30 (hC 84 _ zm84 _ _ _ _ hw) q399 q400 q401 zh2 q402 q131 zn84 rfl (Nat.le_of_ble_eq_true rfl) (st := []) rfl (zcs8 (Nat.le_of_ble_eq_true rfl)) rfl (zkI (fun v29 s30 hw => ?_)) (zout hX hR hTb)
    refine zJ_w (P := fun (j : Int32 → Int32 → zS → Prop) => ∀ (p36 : Int32) (p37 : Int32) (s38 : zS), j p36 p37 s38 → zW X s38 108 [some (va_rf (some a0)), some (va_rf (some σ.2.1)), some (.int p36), some (.int p37), some (.int p11), none] []) hw (fun p36 p37 s38 hw => ?_) (fun j39 hj39 hw => ?_)
    · obtain ⟨v40, e41⟩ : ∃ y : Int32, y = p11 + (1 : Int32) := ⟨_, rfl⟩
      refine z_iinc hX dX2_safestPlan_108 (i := 4) (v := v40) rfl (by rw [e41]; rfl) (Nat.le_of_ble_eq_true rfl) rfl (ls2 := [some (va_rf (some a0)), some (va_rf (some σ.2.1)), some (.int p36), some (.int p37), some (.int v40), none]) rfl ?_
      have hw := hw v40 e41
      refine z_goto hX dX2_safestPlan_111 (tgt := 15) rfl ?_
      exact hrec13 _ _ _ _ hw
    · refine z_if_ne hX dX2_safestPlan_33 (tgt := 39) rfl (fun c42 => ?_) (fun c42 => ?_)
      · have hw := hw.1 c42
        refine z_aload_n hX dX2_safestPlan_39 rfl (i := 0) rfl ?_
        obtain ⟨a46, f47, r48, m49, hw⟩ := hw
        refine z_invV hX hd r48 (ci := 1) rfl rfl m49 dX2_safestPlan_40 (hC 83 _ zm83 _ _ _ _ hw) q351 q352 q353 zh2 q354 q131 zn83 rfl (Nat.le_of_ble_eq_true rfl) (st := []) rfl (zcs8 (Nat.le_of_ble_eq_true rfl)) rfl (zkR (fun v43 s44 hw => ?_)) (zout hX hR hTb)
        obtain ⟨a51, f52, v50, r53, m54, e55, hw⟩ := hw
        refine z_get hX zc14 (k := 0) dX2_safestPlan_43 (Nat.le_of_ble_eq_true rfl) (zlkN hX "PackingDuel" q389) r53 m54 e55 ?_
        refine z_iconst hX (v := (1 : Int32)) dX2_safestPlan_46 (by decide) ?_
        obtain ⟨a56, n57, f58, r59, m60, i61, hw⟩ := hw
        refine z_aald hX 5 dX2_safestPlan_47 rfl r59 m60 i61 ?_
        revert hw
        generalize f58 (Int32.toNatClampNeg (1 : Int32)) = v62
        intro hw
        refine z_iload hX dX2_safestPlan_48 (i := 4) rfl ?_
        obtain ⟨a64, n65, f66, r67, m68, i69, hw⟩ := hw
        refine z_iald hX dX2_safestPlan_50 r67 m68 i69 ?_
        revert hw
        generalize f66 (Int32.toNatClampNeg p11) = v70
        intro hw
        refine z_aload_n hX dX2_safestPlan_51 rfl (i := 0) rfl ?_
        refine z_iload hX dX2_safestPlan_52 (i := 4) rfl ?_
        obtain ⟨a75, f76, r77, m78, hw⟩ := hw
        refine z_invV hX hd r77 (ci := 1) rfl rfl m78 dX2_safestPlan_54 (hC 86 _ zm86 _ _ _ _ hw) q411 q412 q413 zh2 q414 q131 zn86 rfl (Nat.le_of_ble_eq_true rfl) (st := [.int v70]) rfl (zcs8 (Nat.le_of_ble_eq_true rfl)) rfl (zkI (fun v72 s73 hw => ?_)) (zout hX hR hTb)
        refine z_aload_n hX dX2_safestPlan_57 rfl (i := 0) rfl ?_
        obtain ⟨a80, f81, v79, r82, m83, e84, hw⟩ := hw
        refine z_get hX zc1 (k := 4) dX2_safestPlan_58 (Nat.le_of_ble_eq_true rfl) (zlk hX q238) r82 m83 e84 ?_
        refine zJ_w (P := fun (j : Int32 → zS → Prop) => ∀ (p85 : Int32) (s86 : zS), j p85 s86 → zW X s86 85 [some (va_rf (some a0)), some (va_rf (some σ.2.1)), some (.int p9), some (.int p10), some (.int p11), none] [.int p85, .int v70]) hw (fun p85 s86 hw => ?_) (fun j87 hj87 hw => ?_)
        · refine z_isub hX dX2_safestPlan_85 ?_
          refine z_istore hX dX2_safestPlan_86 (i := 5) (Nat.le_of_ble_eq_true rfl) rfl (ls2 := [some (va_rf (some a0)), some (va_rf (some σ.2.1)), some (.int p9), some (.int p10), some (.int p11), some (.int (v70 - p85))]) rfl ?_
          refine z_iload_n hX dX2_safestPlan_88 rfl (i := 2) rfl ?_
          refine z_iconst hX (v := (-1 : Int32)) dX2_safestPlan_89 (by decide) ?_
          refine zJ_w (P := fun (j : zS → Prop) => ∀  (s88 : zS), j  s88 → zW X s88 102 [some (va_rf (some a0)), some (va_rf (some σ.2.1)), none, none, some (.int p11), some (.int (v70 - p85))] []) hw (fun  s88 hw => ?_) (fun j89 hj89 hw => ?_)
          · refine z_iload hX dX2_safestPlan_102 (i := 4) rfl ?_
            refine z_istore_n hX dX2_safestPlan_104 rfl (i := 2) (Nat.le_of_ble_eq_true rfl) (zc_rf _) (ls2 := [some (va_rf (some a0)), some (va_rf (some σ.2.1)), some (.int p11), none, some (.int p11), some (.int (v70 - p85))]) rfl ?_
            refine z_iload hX dX2_safestPlan_105 (i := 5) rfl ?_
            refine z_istore_n hX dX2_safestPlan_107 rfl (i := 3) (Nat.le_of_ble_eq_true rfl) rfl (ls2 := [some (va_rf (some a0)), some (va_rf (some σ.2.1)), some (.int p11), some (.int (v70 - p85)), some (.int p11), some (.int (v70 - p85))]) rfl ?_
            refine z_sub (ls' := [some (va_rf (some a0)), some (va_rf (some σ.2.1)), some (.int p11), some (.int (v70 - p85)), some (.int p11), none]) (zsS (zsS (zsS (zsS (zsS (zsN (zs0))))))) ?_
            exact hj39 _ _ _ hw
          · refine z_icmp_eq hX dX2_safestPlan_90 (tgt := 102) rfl (fun c90 => ?_) (fun c90 => ?_)
            · have hw := hw.1 c90
              refine z_sub (ls' := [some (va_rf (some a0)), some (va_rf (some σ.2.1)), none, none, some (.int p11), some (.int (v70 - p85))]) (zsS (zsS (zsN (zsN (zsS (zsS (zs0))))))) ?_
              exact hj89  _ hw
            · have hw := hw.2 c90
              refine z_iload hX dX2_safestPlan_93 (i := 5) rfl ?_
              refine z_iload_n hX dX2_safestPlan_95 rfl (i := 3) rfl ?_
              refine z_icmp_gt hX dX2_safestPlan_96 (tgt := 102) rfl (fun c91 => ?_) (fun c91 => ?_)
              · have hw := hw.1 c91
                refine z_sub (ls' := [some (va_rf (some a0)), some (va_rf (some σ.2.1)), none, none, some (.int p11), some (.int (v70 - p85))]) (zsS (zsS (zsN (zsN (zsS (zsS (zs0))))))) ?_
                exact hj89  _ hw
              · have hw := hw.2 c91
                refine z_goto hX dX2_safestPlan_99 (tgt := 108) rfl ?_
                refine z_sub (ls' := [some (va_rf (some a0)), some (va_rf (some σ.2.1)), some (.int p9), some (.int p10), some (.int p11), none]) (zsS (zsS (zsS (zsS (zsS (zsN (zs0))))))) ?_
                exact hj39 _ _ _ hw
        · refine z_icmp_ge hX dX2_safestPlan_61 (tgt := 68) rfl (fun c92 => ?_) (fun c92 => ?_)
          · have hw := hw.1 c92
            refine z_aload_n hX dX2_safestPlan_68 rfl (i := 0) rfl ?_
            obtain ⟨a96, f97, r98, m99, hw⟩ := hw
            refine z_invV hX hd r98 (ci := 1) rfl rfl m99 dX2_safestPlan_69 (hC 83 _ zm83 _ _ _ _ hw) q351 q352 q353 zh2 q354 q131 zn83 rfl (Nat.le_of_ble_eq_true rfl) (st := [.int v70]) rfl (zcs8 (Nat.le_of_ble_eq_true rfl)) rfl (zkR (fun v93 s94 hw => ?_)) (zout hX hR hTb)
            obtain ⟨a101, f102, v100, r103, m104, e105, hw⟩ := hw
            refine z_get hX zc14 (k := 0) dX2_safestPlan_72 (Nat.le_of_ble_eq_true rfl) (zlkN hX "PackingDuel" q389) r103 m104 e105 ?_
            refine z_iconst hX (v := (3 : Int32)) dX2_safestPlan_75 (by decide) ?_
            obtain ⟨a106, n107, f108, r109, m110, i111, hw⟩ := hw
            refine z_aald hX 5 dX2_safestPlan_76 rfl r109 m110 i111 ?_
            revert hw
            generalize f108 (Int32.toNatClampNeg (3 : Int32)) = v112
            intro hw
            refine z_aload_n hX dX2_safestPlan_77 rfl (i := 0) rfl ?_
            refine z_iload hX dX2_safestPlan_78 (i := 4) rfl ?_
            refine z_aload_n hX dX2_safestPlan_80 rfl (i := 1) rfl ?_
            obtain ⟨a117, f118, r119, m120, hw⟩ := hw
            refine z_invV hX hd r119 (ci := 1) rfl rfl m120 dX2_safestPlan_81 (hC 88 _ zm88 _ _ _ _ hw) q432 q434 qs2 zh2 q435 q131 zn88 rfl (Nat.le_of_ble_eq_true rfl) (st := [va_rf v112, .int v70]) rfl (zcs8 (Nat.le_of_ble_eq_true rfl)) rfl (zkI (fun v114 s115 hw => ?_)) (zout hX hR hTb)
            obtain ⟨a121, n122, f123, r124, m125, i126, hw⟩ := hw
            refine z_iald hX dX2_safestPlan_84 r124 m125 i126 ?_
            revert hw
            generalize f123 (Int32.toNatClampNeg v114) = v127
            intro hw
            exact hj87 _ _ hw
          · have hw := hw.2 c92
            refine z_iconst hX (v := (0 : Int32)) dX2_safestPlan_64 (by decide) ?_
            refine z_goto hX dX2_safestPlan_65 (tgt := 85) rfl ?_
            exact hj87 _ _ hw
      · have hw := hw.2 c42
        refine z_goto hX dX2_safestPlan_36 (tgt := 108) rfl ?_
        exact hj39 _ _ _ hw
abbrev cX2_kernel : ByteArray := prog_20_method_24_code
def yX2_kernel : MethodName := ⟨RX2, "kernel", "()LPackingDuel$Kernel;"⟩
def dkwX2_kernel_2 : List UInt8 := [167, 255, 235, 1, 176]
abbrev dktX2_kernel_2 : List UInt8 := dkwX2_kernel_2 ++ []
def dkwX2_kernel_1 : List UInt8 := [62, 29, 28, 163, 0, 22, 42, 29, 43, 182, 0, 227, 158, 0, 7, 43, 3, 50, 176, 132, 3, 1]
abbrev dktX2_kernel_1 : List UInt8 := dkwX2_kernel_1 ++ dktX2_kernel_2
def dkwX2_kernel_0 : List UInt8 := [4, 189, 0, 218, 76, 42, 180, 0, 18, 182, 0, 25, 42, 180, 0, 21, 182, 0, 25, 184, 0, 231, 61, 4]
abbrev dktX2_kernel_0 : List UInt8 := dkwX2_kernel_0 ++ dktX2_kernel_1
theorem dksX2_kernel_0 : cX2_kernel.data.toList.drop 0 = dktX2_kernel_0 := by decide +kernel
theorem dksX2_kernel_1 : cX2_kernel.data.toList.drop 24 = dktX2_kernel_1 := dk_seg dksX2_kernel_0 24 rfl rfl
theorem dksX2_kernel_2 : cX2_kernel.data.toList.drop 46 = dktX2_kernel_2 := dk_seg dksX2_kernel_1 22 rfl rfl
theorem dX2_kernel_0 : decode cX2_kernel 0 = .ok (.iconst 1, 1) := dk_4 (dk_at dksX2_kernel_0 0 rfl rfl)
theorem dX2_kernel_1 : decode cX2_kernel 1 = .ok (.anewarray 218, 3) := dk_189 0 218 (dk_at dksX2_kernel_0 1 rfl rfl)
theorem dX2_kernel_4 : decode cX2_kernel 4 = .ok (.astore_n 1, 1) := dk_76 (dk_at dksX2_kernel_0 4 rfl rfl)
theorem dX2_kernel_5 : decode cX2_kernel 5 = .ok (.aload_n 0, 1) := dk_42 (dk_at dksX2_kernel_0 5 rfl rfl)
theorem dX2_kernel_6 : decode cX2_kernel 6 = .ok (.getfield 18, 3) := dk_180 0 18 (dk_at dksX2_kernel_0 6 rfl rfl)
theorem dX2_kernel_9 : decode cX2_kernel 9 = .ok (.invokevirtual 25, 3) := dk_182 0 25 (dk_at dksX2_kernel_0 9 rfl rfl)
theorem dX2_kernel_12 : decode cX2_kernel 12 = .ok (.aload_n 0, 1) := dk_42 (dk_at dksX2_kernel_0 12 rfl rfl)
theorem dX2_kernel_13 : decode cX2_kernel 13 = .ok (.getfield 21, 3) := dk_180 0 21 (dk_at dksX2_kernel_0 13 rfl rfl)
theorem dX2_kernel_16 : decode cX2_kernel 16 = .ok (.invokevirtual 25, 3) := dk_182 0 25 (dk_at dksX2_kernel_0 16 rfl rfl)
theorem dX2_kernel_19 : decode cX2_kernel 19 = .ok (.invokestatic 231, 3) := dk_184 0 231 (dk_at dksX2_kernel_0 19 rfl rfl)
theorem dX2_kernel_22 : decode cX2_kernel 22 = .ok (.istore_n 2, 1) := dk_61 (dk_at dksX2_kernel_0 22 rfl rfl)
theorem dX2_kernel_23 : decode cX2_kernel 23 = .ok (.iconst 1, 1) := dk_4 (dk_at dksX2_kernel_0 23 rfl rfl)
theorem dX2_kernel_24 : decode cX2_kernel 24 = .ok (.istore_n 3, 1) := dk_62 (dk_at dksX2_kernel_1 0 rfl rfl)
theorem dX2_kernel_25 : decode cX2_kernel 25 = .ok (.iload_n 3, 1) := dk_29 (dk_at dksX2_kernel_1 1 rfl rfl)
theorem dX2_kernel_26 : decode cX2_kernel 26 = .ok (.iload_n 2, 1) := dk_28 (dk_at dksX2_kernel_1 2 rfl rfl)
theorem dX2_kernel_27 : decode cX2_kernel 27 = .ok (.if_icmp .gt 22, 3) := dk_163 0 22 (dk_at dksX2_kernel_1 3 rfl rfl)
theorem dX2_kernel_30 : decode cX2_kernel 30 = .ok (.aload_n 0, 1) := dk_42 (dk_at dksX2_kernel_1 6 rfl rfl)
theorem dX2_kernel_31 : decode cX2_kernel 31 = .ok (.iload_n 3, 1) := dk_29 (dk_at dksX2_kernel_1 7 rfl rfl)
theorem dX2_kernel_32 : decode cX2_kernel 32 = .ok (.aload_n 1, 1) := dk_43 (dk_at dksX2_kernel_1 8 rfl rfl)
theorem dX2_kernel_33 : decode cX2_kernel 33 = .ok (.invokevirtual 227, 3) := dk_182 0 227 (dk_at dksX2_kernel_1 9 rfl rfl)
theorem dX2_kernel_36 : decode cX2_kernel 36 = .ok (.ifCond .le 7, 3) := dk_158 0 7 (dk_at dksX2_kernel_1 12 rfl rfl)
theorem dX2_kernel_39 : decode cX2_kernel 39 = .ok (.aload_n 1, 1) := dk_43 (dk_at dksX2_kernel_1 15 rfl rfl)
theorem dX2_kernel_40 : decode cX2_kernel 40 = .ok (.iconst 0, 1) := dk_3 (dk_at dksX2_kernel_1 16 rfl rfl)
theorem dX2_kernel_41 : decode cX2_kernel 41 = .ok (.aaload, 1) := dk_50 (dk_at dksX2_kernel_1 17 rfl rfl)
theorem dX2_kernel_42 : decode cX2_kernel 42 = .ok (.areturn, 1) := dk_176 (dk_at dksX2_kernel_1 18 rfl rfl)
theorem dX2_kernel_43 : decode cX2_kernel 43 = .ok (.iinc 3 1, 3) := dk_132 3 1 (dk_at dksX2_kernel_1 19 rfl rfl)
theorem dX2_kernel_46 : decode cX2_kernel 46 = .ok (.goto (-21), 3) := dk_167 255 235 (dk_at dksX2_kernel_2 0 rfl rfl)
theorem dX2_kernel_49 : decode cX2_kernel 49 = .ok (.aconst_null, 1) := dk_1 (dk_at dksX2_kernel_2 3 rfl rfl)
theorem dX2_kernel_50 : decode cX2_kernel 50 = .ok (.areturn, 1) := dk_176 (dk_at dksX2_kernel_2 4 rfl rfl)
/-- PackingDuel$State.kernel()LPackingDuel$Kernel; -/
def zb90 (G : zPg) (C : zO) (args : List Value) (Q : zQ) (Y : zY) (σ : zS) : Prop := ∃ (a0 : Nat), args = [.ref a0] ∧ (znewA σ 6 (1 : Int32) (.inr (.inr (.inr (.inr (fun _ => none))))) (fun s1 => zgR s1 (some a0) 1 1 (fun v4 => zrc s1 v4 2 (fun a13 => zcl C 128 [.ref a13] Y s1 (zqI (fun v10 s11 => zgR s11 (some a0) 1 2 (fun v17 => zrc s11 v17 2 (fun a26 => zcl C 128 [.ref a26] Y s11 (zqI (fun v23 s24 => zcl C 295 [.int v10, .int v23] Y s24 (zqI (fun v30 s31 => ∃ n, zIt (fun _ _ => False) (fun rec35 (p33 : Int32) (s34 : zS) => ((v30 < p33) → Q (some (va_rf none)) s34) ∧ ((¬ v30 < p33) → zrc s34 (some a0) 1 (fun a40 => zcl C 91 [.ref a40, .int p33, va_rf (some σ.2.1)] Y s34 (zqI (fun v37 s38 => ((v37 ≤ 0) → (∀ v45 : Int32, v45 = p33 + (1 : Int32) → rec35 v45 s38)) ∧ ((¬ v37 ≤ 0) → zaR s38 6 (some σ.2.1) (0 : Int32) (fun v53 => Q (some (va_rf v53)) s38))))))) n (1 : Int32) s31))))))))))))
set_option maxHeartbeats 4000000 in
theorem wk90 {l : Launch} {g : zG} {d : Nat} {C : zO} (hG : zGk g) (hC : zSound l g d C) {args : List Value} {Q : zQ} {Y : zY} {σ : zS} (hw : zb90 (zpg g) C args Q Y σ) : zMet l g (d + 1) (⟨"PackingDuel$State", "kernel", "()LPackingDuel$Kernel;"⟩, Cond.code ⟨"PackingDuel$State", "kernel", "()LPackingDuel$Kernel;"⟩ prog_20_method_24_code 4 (Option.some (FieldType.object "PackingDuel$Kernel"))) args σ Q Y := by
  obtain ⟨a0, rfl, hw⟩ := hw
  refine zof hG (by decide +kernel) [false] ⟨rfl, trivial⟩ (Nat.le_of_ble_eq_true rfl) (ls := [some (va_rf (some a0)), none, none, none]) rfl ?_
  intro X hX hR hTb hd1 hd2 hl hg hnm
  subst hl
  subst hg
  have hd : zDep X d := ⟨hd1, hd2⟩
  refine z_iconst hX (v := (1 : Int32)) dX2_kernel_0 (by decide) ?_
  refine z_anew hX 6 dX2_kernel_1 q475 q476 rfl rfl hw.1 hw.2.1 hw.2.2.1 hw.2.2.2.1 (fun z2 => z_nm (fun s1 e3 => ?_))
  have hw := hw.2.2.2.2 z2 s1 e3
  refine z_astore_n hX dX2_kernel_4 rfl (i := 1) (Nat.le_of_ble_eq_true rfl) (zc_rf _) (ls2 := [some (va_rf (some a0)), some (va_rf (some σ.2.1)), none, none]) rfl ?_
  refine z_aload_n hX dX2_kernel_5 rfl (i := 0) rfl ?_
  obtain ⟨a5, f6, v4, r7, m8, e9, hw⟩ := hw
  refine z_get hX zc1 (k := 1) dX2_kernel_6 (Nat.le_of_ble_eq_true rfl) (zlk hX q229) r7 m8 e9 ?_
  obtain ⟨a13, f14, r15, m16, hw⟩ := hw
  refine z_invV hX hd r15 (ci := 2) rfl rfl m16 dX2_kernel_9 (hC 128 _ zm128 _ _ _ _ hw) q477 q362 q363 zh5 q364 q134 zn128 rfl (Nat.le_of_ble_eq_true rfl) (st := []) rfl (zcs8 (Nat.le_of_ble_eq_true rfl)) rfl (zkI (fun v10 s11 hw => ?_)) (zout hX hR hTb)
  refine z_aload_n hX dX2_kernel_12 rfl (i := 0) rfl ?_
  obtain ⟨a18, f19, v17, r20, m21, e22, hw⟩ := hw
  refine z_get hX zc1 (k := 2) dX2_kernel_13 (Nat.le_of_ble_eq_true rfl) (zlk hX q231) r20 m21 e22 ?_
  obtain ⟨a26, f27, r28, m29, hw⟩ := hw
  refine z_invV hX hd r28 (ci := 2) rfl rfl m29 dX2_kernel_16 (hC 128 _ zm128 _ _ _ _ hw) q477 q362 q363 zh5 q364 q134 zn128 rfl (Nat.le_of_ble_eq_true rfl) (st := [.int v10]) rfl (zcs8 (Nat.le_of_ble_eq_true rfl)) rfl (zkI (fun v23 s24 hw => ?_)) (zout hX hR hTb)
  refine z_invS hX hd dX2_kernel_19 (hC 295 _ zm295 _ _ _ _ hw) q478 q479 zh8 q480 q137 zn295 rfl (Nat.le_of_ble_eq_true rfl) (st := []) rfl (zcs8 (Nat.le_of_ble_eq_true rfl)) rfl (zkI (fun v30 s31 hw => ?_)) (zout hX hR hTb)
  refine z_istore_n hX dX2_kernel_22 rfl (i := 2) (Nat.le_of_ble_eq_true rfl) (zc_rf _) (ls2 := [some (va_rf (some a0)), some (va_rf (some σ.2.1)), some (.int v30), none]) rfl ?_
  refine z_iconst hX (v := (1 : Int32)) dX2_kernel_23 (by decide) ?_
  refine z_istore_n hX dX2_kernel_24 rfl (i := 3) (Nat.le_of_ble_eq_true rfl) rfl (ls2 := [some (va_rf (some a0)), some (va_rf (some σ.2.1)), some (.int v30), some (.int (1 : Int32))]) rfl ?_
  obtain ⟨n55, hw⟩ := hw
  refine zIt_w (P := fun (j : Int32 → zS → Prop) => ∀ (p33 : Int32) (s34 : zS), j p33 s34 → zW X s34 25 [some (va_rf (some a0)), some (va_rf (some σ.2.1)), some (.int v30), some (.int p33)] []) (fun _ _ h => h.elim) (fun rec35 hrec35 p33 s34 hw => ?_) n55 _ _ hw
  refine z_iload_n hX dX2_kernel_25 rfl (i := 3) rfl ?_
  refine z_iload_n hX dX2_kernel_26 rfl (i := 2) rfl ?_
  refine z_icmp_gt hX dX2_kernel_27 (tgt := 49) rfl (fun c36 => ?_) (fun c36 => ?_)
  · have hw := hw.1 c36
    refine z_null hX dX2_kernel_49 ?_
    exact z_areturn hX hR dX2_kernel_50 (Or.inl ⟨_, rfl⟩) hw
  · have hw := hw.2 c36
    refine z_aload_n hX dX2_kernel_30 rfl (i := 0) rfl ?_
    refine z_iload_n hX dX2_kernel_31 rfl (i := 3) rfl ?_
    refine z_aload_n hX dX2_kernel_32 rfl (i := 1) rfl ?_
    obtain ⟨a40, f41, r42, m43, hw⟩ := hw
    refine z_invV hX hd r42 (ci := 1) rfl rfl m43 dX2_kernel_33 (hC 91 _ zm91 _ _ _ _ hw) q481 q483 qs3 zh2 q484 q131 zn91 rfl (Nat.le_of_ble_eq_true rfl) (st := []) rfl (zcs8 (Nat.le_of_ble_eq_true rfl)) rfl (zkI (fun v37 s38 hw => ?_)) (zout hX hR hTb)
    refine z_if_le hX dX2_kernel_36 (tgt := 43) rfl (fun c44 => ?_) (fun c44 => ?_)
    · have hw := hw.1 c44
      obtain ⟨v45, e46⟩ : ∃ y : Int32, y = p33 + (1 : Int32) := ⟨_, rfl⟩
      refine z_iinc hX dX2_kernel_43 (i := 3) (v := v45) rfl (by rw [e46]; rfl) (Nat.le_of_ble_eq_true rfl) rfl (ls2 := [some (va_rf (some a0)), some (va_rf (some σ.2.1)), some (.int v30), some (.int v45)]) rfl ?_
      have hw := hw v45 e46
      refine z_goto hX dX2_kernel_46 (tgt := 25) rfl ?_
      exact hrec35 _ _ hw
    · have hw := hw.2 c44
      refine z_aload_n hX dX2_kernel_39 rfl (i := 1) rfl ?_
      refine z_iconst hX (v := (0 : Int32)) dX2_kernel_40 (by decide) ?_
      obtain ⟨a47, n48, f49, r50, m51, i52, hw⟩ := hw
      refine z_aald hX 6 dX2_kernel_41 rfl r50 m51 i52 ?_
      revert hw
      generalize f49 (Int32.toNatClampNeg (0 : Int32)) = v53
      intro hw
      exact z_areturn hX hR dX2_kernel_42 (Or.inl ⟨_, rfl⟩) hw
abbrev cX2_kernels : ByteArray := prog_20_method_22_code
def yX2_kernels : MethodName := ⟨RX2, "kernels", "(I[LPackingDuel$Kernel;)I"⟩
def dkwX2_kernels_5 : List UInt8 := [21, 4, 172]
abbrev dktX2_kernels_5 : List UInt8 := dkwX2_kernels_5 ++ []
def dkwX2_kernels_4 : List UInt8 := [154, 0, 8, 44, 3, 25, 7, 83, 132, 4, 1, 132, 6, 1, 167, 255, 175, 132, 5, 1, 167, 255, 155]
abbrev dktX2_kernels_4 : List UInt8 := dkwX2_kernels_4 ++ dktX2_kernels_5
def dkwX2_kernels_3 : List UInt8 := [21, 5, 21, 6, 183, 0, 220, 58, 7, 25, 7, 182, 0, 223, 154, 0, 6, 167, 0, 16, 21, 4]
abbrev dktX2_kernels_3 : List UInt8 := dkwX2_kernels_3 ++ dktX2_kernels_4
def dkwX2_kernels_2 : List UInt8 := [160, 0, 57, 27, 158, 0, 15, 21, 5, 184, 0, 215, 27, 159, 0, 6, 167, 0, 41, 187, 0, 218, 89, 45]
abbrev dktX2_kernels_2 : List UInt8 := dkwX2_kernels_2 ++ dktX2_kernels_3
def dkwX2_kernels_1 : List UInt8 := [54, 6, 21, 6, 4, 45, 180, 0, 200, 120, 162, 0, 76, 21, 5, 184, 0, 215, 21, 6, 184, 0, 215]
abbrev dktX2_kernels_1 : List UInt8 := dkwX2_kernels_1 ++ dktX2_kernels_2
def dkwX2_kernels_0 : List UInt8 := [42, 182, 0, 211, 78, 3, 54, 4, 4, 54, 5, 21, 5, 4, 45, 180, 0, 198, 120, 162, 0, 96, 4]
abbrev dktX2_kernels_0 : List UInt8 := dkwX2_kernels_0 ++ dktX2_kernels_1
theorem dksX2_kernels_0 : cX2_kernels.data.toList.drop 0 = dktX2_kernels_0 := by decide +kernel
theorem dksX2_kernels_1 : cX2_kernels.data.toList.drop 23 = dktX2_kernels_1 := dk_seg dksX2_kernels_0 23 rfl rfl
theorem dksX2_kernels_2 : cX2_kernels.data.toList.drop 46 = dktX2_kernels_2 := dk_seg dksX2_kernels_1 23 rfl rfl
theorem dksX2_kernels_3 : cX2_kernels.data.toList.drop 70 = dktX2_kernels_3 := dk_seg dksX2_kernels_2 24 rfl rfl
theorem dksX2_kernels_4 : cX2_kernels.data.toList.drop 92 = dktX2_kernels_4 := dk_seg dksX2_kernels_3 22 rfl rfl
theorem dksX2_kernels_5 : cX2_kernels.data.toList.drop 115 = dktX2_kernels_5 := dk_seg dksX2_kernels_4 23 rfl rfl
theorem dX2_kernels_0 : decode cX2_kernels 0 = .ok (.aload_n 0, 1) := dk_42 (dk_at dksX2_kernels_0 0 rfl rfl)
theorem dX2_kernels_1 : decode cX2_kernels 1 = .ok (.invokevirtual 211, 3) := dk_182 0 211 (dk_at dksX2_kernels_0 1 rfl rfl)
theorem dX2_kernels_4 : decode cX2_kernels 4 = .ok (.astore_n 3, 1) := dk_78 (dk_at dksX2_kernels_0 4 rfl rfl)
theorem dX2_kernels_5 : decode cX2_kernels 5 = .ok (.iconst 0, 1) := dk_3 (dk_at dksX2_kernels_0 5 rfl rfl)
theorem dX2_kernels_6 : decode cX2_kernels 6 = .ok (.istore 4, 2) := dk_54 4 (dk_at dksX2_kernels_0 6 rfl rfl)
theorem dX2_kernels_8 : decode cX2_kernels 8 = .ok (.iconst 1, 1) := dk_4 (dk_at dksX2_kernels_0 8 rfl rfl)
theorem dX2_kernels_9 : decode cX2_kernels 9 = .ok (.istore 5, 2) := dk_54 5 (dk_at dksX2_kernels_0 9 rfl rfl)
theorem dX2_kernels_11 : decode cX2_kernels 11 = .ok (.iload 5, 2) := dk_21 5 (dk_at dksX2_kernels_0 11 rfl rfl)
theorem dX2_kernels_13 : decode cX2_kernels 13 = .ok (.iconst 1, 1) := dk_4 (dk_at dksX2_kernels_0 13 rfl rfl)
theorem dX2_kernels_14 : decode cX2_kernels 14 = .ok (.aload_n 3, 1) := dk_45 (dk_at dksX2_kernels_0 14 rfl rfl)
theorem dX2_kernels_15 : decode cX2_kernels 15 = .ok (.getfield 198, 3) := dk_180 0 198 (dk_at dksX2_kernels_0 15 rfl rfl)
theorem dX2_kernels_18 : decode cX2_kernels 18 = .ok (.ishl, 1) := dk_120 (dk_at dksX2_kernels_0 18 rfl rfl)
theorem dX2_kernels_19 : decode cX2_kernels 19 = .ok (.if_icmp .ge 96, 3) := dk_162 0 96 (dk_at dksX2_kernels_0 19 rfl rfl)
theorem dX2_kernels_22 : decode cX2_kernels 22 = .ok (.iconst 1, 1) := dk_4 (dk_at dksX2_kernels_0 22 rfl rfl)
theorem dX2_kernels_23 : decode cX2_kernels 23 = .ok (.istore 6, 2) := dk_54 6 (dk_at dksX2_kernels_1 0 rfl rfl)
theorem dX2_kernels_25 : decode cX2_kernels 25 = .ok (.iload 6, 2) := dk_21 6 (dk_at dksX2_kernels_1 2 rfl rfl)
theorem dX2_kernels_27 : decode cX2_kernels 27 = .ok (.iconst 1, 1) := dk_4 (dk_at dksX2_kernels_1 4 rfl rfl)
theorem dX2_kernels_28 : decode cX2_kernels 28 = .ok (.aload_n 3, 1) := dk_45 (dk_at dksX2_kernels_1 5 rfl rfl)
theorem dX2_kernels_29 : decode cX2_kernels 29 = .ok (.getfield 200, 3) := dk_180 0 200 (dk_at dksX2_kernels_1 6 rfl rfl)
theorem dX2_kernels_32 : decode cX2_kernels 32 = .ok (.ishl, 1) := dk_120 (dk_at dksX2_kernels_1 9 rfl rfl)
theorem dX2_kernels_33 : decode cX2_kernels 33 = .ok (.if_icmp .ge 76, 3) := dk_162 0 76 (dk_at dksX2_kernels_1 10 rfl rfl)
theorem dX2_kernels_36 : decode cX2_kernels 36 = .ok (.iload 5, 2) := dk_21 5 (dk_at dksX2_kernels_1 13 rfl rfl)
theorem dX2_kernels_38 : decode cX2_kernels 38 = .ok (.invokestatic 215, 3) := dk_184 0 215 (dk_at dksX2_kernels_1 15 rfl rfl)
theorem dX2_kernels_41 : decode cX2_kernels 41 = .ok (.iload 6, 2) := dk_21 6 (dk_at dksX2_kernels_1 18 rfl rfl)
theorem dX2_kernels_43 : decode cX2_kernels 43 = .ok (.invokestatic 215, 3) := dk_184 0 215 (dk_at dksX2_kernels_1 20 rfl rfl)
theorem dX2_kernels_46 : decode cX2_kernels 46 = .ok (.if_icmp .ne 57, 3) := dk_160 0 57 (dk_at dksX2_kernels_2 0 rfl rfl)
theorem dX2_kernels_49 : decode cX2_kernels 49 = .ok (.iload_n 1, 1) := dk_27 (dk_at dksX2_kernels_2 3 rfl rfl)
theorem dX2_kernels_50 : decode cX2_kernels 50 = .ok (.ifCond .le 15, 3) := dk_158 0 15 (dk_at dksX2_kernels_2 4 rfl rfl)
theorem dX2_kernels_53 : decode cX2_kernels 53 = .ok (.iload 5, 2) := dk_21 5 (dk_at dksX2_kernels_2 7 rfl rfl)
theorem dX2_kernels_55 : decode cX2_kernels 55 = .ok (.invokestatic 215, 3) := dk_184 0 215 (dk_at dksX2_kernels_2 9 rfl rfl)
theorem dX2_kernels_58 : decode cX2_kernels 58 = .ok (.iload_n 1, 1) := dk_27 (dk_at dksX2_kernels_2 12 rfl rfl)
theorem dX2_kernels_59 : decode cX2_kernels 59 = .ok (.if_icmp .eq 6, 3) := dk_159 0 6 (dk_at dksX2_kernels_2 13 rfl rfl)
theorem dX2_kernels_62 : decode cX2_kernels 62 = .ok (.goto 41, 3) := dk_167 0 41 (dk_at dksX2_kernels_2 16 rfl rfl)
theorem dX2_kernels_65 : decode cX2_kernels 65 = .ok (.new 218, 3) := dk_187 0 218 (dk_at dksX2_kernels_2 19 rfl rfl)
theorem dX2_kernels_68 : decode cX2_kernels 68 = .ok (.dup, 1) := dk_89 (dk_at dksX2_kernels_2 22 rfl rfl)
theorem dX2_kernels_69 : decode cX2_kernels 69 = .ok (.aload_n 3, 1) := dk_45 (dk_at dksX2_kernels_2 23 rfl rfl)
theorem dX2_kernels_70 : decode cX2_kernels 70 = .ok (.iload 5, 2) := dk_21 5 (dk_at dksX2_kernels_3 0 rfl rfl)
theorem dX2_kernels_72 : decode cX2_kernels 72 = .ok (.iload 6, 2) := dk_21 6 (dk_at dksX2_kernels_3 2 rfl rfl)
theorem dX2_kernels_74 : decode cX2_kernels 74 = .ok (.invokespecial 220, 3) := dk_183 0 220 (dk_at dksX2_kernels_3 4 rfl rfl)
theorem dX2_kernels_77 : decode cX2_kernels 77 = .ok (.astore 7, 2) := dk_58 7 (dk_at dksX2_kernels_3 7 rfl rfl)
theorem dX2_kernels_79 : decode cX2_kernels 79 = .ok (.aload 7, 2) := dk_25 7 (dk_at dksX2_kernels_3 9 rfl rfl)
theorem dX2_kernels_81 : decode cX2_kernels 81 = .ok (.invokevirtual 223, 3) := dk_182 0 223 (dk_at dksX2_kernels_3 11 rfl rfl)
theorem dX2_kernels_84 : decode cX2_kernels 84 = .ok (.ifCond .ne 6, 3) := dk_154 0 6 (dk_at dksX2_kernels_3 14 rfl rfl)
theorem dX2_kernels_87 : decode cX2_kernels 87 = .ok (.goto 16, 3) := dk_167 0 16 (dk_at dksX2_kernels_3 17 rfl rfl)
theorem dX2_kernels_90 : decode cX2_kernels 90 = .ok (.iload 4, 2) := dk_21 4 (dk_at dksX2_kernels_3 20 rfl rfl)
theorem dX2_kernels_92 : decode cX2_kernels 92 = .ok (.ifCond .ne 8, 3) := dk_154 0 8 (dk_at dksX2_kernels_4 0 rfl rfl)
theorem dX2_kernels_95 : decode cX2_kernels 95 = .ok (.aload_n 2, 1) := dk_44 (dk_at dksX2_kernels_4 3 rfl rfl)
theorem dX2_kernels_96 : decode cX2_kernels 96 = .ok (.iconst 0, 1) := dk_3 (dk_at dksX2_kernels_4 4 rfl rfl)
theorem dX2_kernels_97 : decode cX2_kernels 97 = .ok (.aload 7, 2) := dk_25 7 (dk_at dksX2_kernels_4 5 rfl rfl)
theorem dX2_kernels_99 : decode cX2_kernels 99 = .ok (.aastore, 1) := dk_83 (dk_at dksX2_kernels_4 7 rfl rfl)
theorem dX2_kernels_100 : decode cX2_kernels 100 = .ok (.iinc 4 1, 3) := dk_132 4 1 (dk_at dksX2_kernels_4 8 rfl rfl)
theorem dX2_kernels_103 : decode cX2_kernels 103 = .ok (.iinc 6 1, 3) := dk_132 6 1 (dk_at dksX2_kernels_4 11 rfl rfl)
theorem dX2_kernels_106 : decode cX2_kernels 106 = .ok (.goto (-81), 3) := dk_167 255 175 (dk_at dksX2_kernels_4 14 rfl rfl)
theorem dX2_kernels_109 : decode cX2_kernels 109 = .ok (.iinc 5 1, 3) := dk_132 5 1 (dk_at dksX2_kernels_4 17 rfl rfl)
theorem dX2_kernels_112 : decode cX2_kernels 112 = .ok (.goto (-101), 3) := dk_167 255 155 (dk_at dksX2_kernels_4 20 rfl rfl)
theorem dX2_kernels_115 : decode cX2_kernels 115 = .ok (.iload 4, 2) := dk_21 4 (dk_at dksX2_kernels_5 0 rfl rfl)
theorem dX2_kernels_117 : decode cX2_kernels 117 = .ok (.ireturn, 1) := dk_172 (dk_at dksX2_kernels_5 2 rfl rfl)
/-- PackingDuel$State.kernels(I[LPackingDuel$Kernel;)I -/
def zb91 (G : zPg) (C : zO) (args : List Value) (Q : zQ) (Y : zY) (σ : zS) : Prop := ∃ (a0 : Nat) (x1 : Int32) (x2 : Option Nat), args = [.ref a0, .int x1, va_rf x2] ∧ (zrc σ (some a0) 1 (fun a4 => zcl C 92 [.ref a4] Y σ (zqR (fun v1 s2 => ∃ n, zIt (fun _ _ _ => False) (fun rec11 (p8 : Int32) (p9 : Int32) (s10 : zS) => zgI s10 v1 22 0 (fun v12 => ((((1 : Int32) <<< (v12 &&& 31)) ≤ p9) → Q (some (.int p8)) s10) ∧ ((¬ ((1 : Int32) <<< (v12 &&& 31)) ≤ p9) → ∃ n, zIt (fun _ _ _ => False) (fun rec22 (p19 : Int32) (p20 : Int32) (s21 : zS) => zgI s21 v1 22 1 (fun v23 => ((((1 : Int32) <<< (v23 &&& 31)) ≤ p20) → (∀ v30 : Int32, v30 = p9 + (1 : Int32) → rec11 p19 v30 s21)) ∧ ((¬ ((1 : Int32) <<< (v23 &&& 31)) ≤ p20) → zcl C 433 [.int p9] Y s21 (zqI (fun v32 s33 => zcl C 433 [.int p20] Y s33 (zqI (fun v35 s36 => zJ (fun (p38 : Int32) (s39 : zS) => (∀ v41 : Int32, v41 = p20 + (1 : Int32) → rec22 p38 v41 s39)) (fun (j40 : Int32 → zS → Prop) => ((¬ v32 = v35) → j40 p19 s36) ∧ ((v32 = v35) → zJ (fun  (s44 : zS) => znew s44 23 [va_rf none, .int 0, .int 0, va_rf none, va_rf none, .long 0, .long 0] 7 (fun s46 => (∃ a52, (some s44.2.1) = some a52 ∧ zcl C 497 [.ref a52, va_rf v1, .int p9, .int p20] Y s46 (zqV (fun s50 => zrc s50 (some s44.2.1) 23 (fun a57 => zcl C 500 [.ref a57] Y s50 (zqI (fun v54 s55 => ((¬ v54 = 0) → zJ (fun  (s62 : zS) => (∀ v64 : Int32, v64 = p19 + (1 : Int32) → j40 v64 s62)) (fun (j63 : zS → Prop) => ((¬ p19 = 0) → j63 s55) ∧ ((p19 = 0) → zsR s55 G.1 6 [23] x2 (0 : Int32) (some s44.2.1) (fun s75 => j63 s75)))) ∧ ((v54 = 0) → j40 p19 s55))))))))) (fun (j45 : zS → Prop) => ((x1 ≤ 0) → j45 s36) ∧ ((¬ x1 ≤ 0) → zcl C 433 [.int p9] Y s36 (zqI (fun v78 s79 => ((v78 = x1) → j45 s79) ∧ ((¬ v78 = x1) → j40 p19 s79)))))))))))))) n p8 (1 : Int32) s10))) n (0 : Int32) (1 : Int32) s2))))
set_option maxHeartbeats 4000000 in
theorem wk91 {l : Launch} {g : zG} {d : Nat} {C : zO} (hG : zGk g) (hC : zSound l g d C) {args : List Value} {Q : zQ} {Y : zY} {σ : zS} (hw : zb91 (zpg g) C args Q Y σ) : zMet l g (d + 1) (⟨"PackingDuel$State", "kernels", "(I[LPackingDuel$Kernel;)I"⟩, Cond.code ⟨"PackingDuel$State", "kernels", "(I[LPackingDuel$Kernel;)I"⟩ prog_20_method_22_code 8 (Option.some FieldType.int)) args σ Q Y := by
  obtain ⟨a0, x1, x2, rfl, hw⟩ := hw
  refine zof hG (by decide +kernel) [false, false, false] ⟨rfl, rfl, (zc_rf _), trivial⟩ (Nat.le_of_ble_eq_true rfl) (ls := [some (va_rf (some a0)), some (.int x1), some (va_rf x2), none, none, none, none, none]) rfl ?_
  intro X hX hR hTb hd1 hd2 hl hg hnm
  subst hl
  subst hg
  have hd : zDep X d := ⟨hd1, hd2⟩
  refine z_aload_n hX dX2_kernels_0 rfl (i := 0) rfl ?_
  obtain ⟨a4, f5, r6, m7, hw⟩ := hw
  refine z_invV hX hd r6 (ci := 1) rfl rfl m7 dX2_kernels_1 (hC 92 _ zm92 _ _ _ _ hw) q485 q487 qs4 zh2 q488 q131 zn92 rfl (Nat.le_of_ble_eq_true rfl) (st := []) rfl (zcs8 (Nat.le_of_ble_eq_true rfl)) rfl (zkR (fun v1 s2 hw => ?_)) (zout hX hR hTb)
  refine z_astore_n hX dX2_kernels_4 rfl (i := 3) (Nat.le_of_ble_eq_true rfl) (zc_rf _) (ls2 := [some (va_rf (some a0)), some (.int x1), some (va_rf x2), some (va_rf v1), none, none, none, none]) rfl ?_
  refine z_iconst hX (v := (0 : Int32)) dX2_kernels_5 (by decide) ?_
  refine z_istore hX dX2_kernels_6 (i := 4) (Nat.le_of_ble_eq_true rfl) (zc_rf _) (ls2 := [some (va_rf (some a0)), some (.int x1), some (va_rf x2), some (va_rf v1), some (.int (0 : Int32)), none, none, none]) rfl ?_
  refine z_iconst hX (v := (1 : Int32)) dX2_kernels_8 (by decide) ?_
  refine z_istore hX dX2_kernels_9 (i := 5) (Nat.le_of_ble_eq_true rfl) rfl (ls2 := [some (va_rf (some a0)), some (.int x1), some (va_rf x2), some (va_rf v1), some (.int (0 : Int32)), some (.int (1 : Int32)), none, none]) rfl ?_
  obtain ⟨n83, hw⟩ := hw
  refine z_sub (ls' := [none, some (.int x1), some (va_rf x2), some (va_rf v1), some (.int (0 : Int32)), some (.int (1 : Int32)), none, none]) (zsN (zsS (zsS (zsS (zsS (zsS (zsN (zsN (zs0))))))))) ?_
  refine zIt_w (P := fun (j : Int32 → Int32 → zS → Prop) => ∀ (p8 : Int32) (p9 : Int32) (s10 : zS), j p8 p9 s10 → zW X s10 11 [none, some (.int x1), some (va_rf x2), some (va_rf v1), some (.int p8), some (.int p9), none, none] []) (fun _ _ _ h => h.elim) (fun rec11 hrec11 p8 p9 s10 hw => ?_) n83 _ _ _ hw
  refine z_iload hX dX2_kernels_11 (i := 5) rfl ?_
  refine z_iconst hX (v := (1 : Int32)) dX2_kernels_13 (by decide) ?_
  refine z_aload_n hX dX2_kernels_14 rfl (i := 3) rfl ?_
  obtain ⟨a13, f14, v12, r15, m16, e17, hw⟩ := hw
  refine z_get hX zc22 (k := 0) dX2_kernels_15 (Nat.le_of_ble_eq_true rfl) (zlkN hX "PackingDuel" q498) r15 m16 e17 ?_
  refine z_ishl hX dX2_kernels_18 ?_
  refine z_icmp_ge hX dX2_kernels_19 (tgt := 115) rfl (fun c18 => ?_) (fun c18 => ?_)
  · have hw := hw.1 c18
    refine z_iload hX dX2_kernels_115 (i := 4) rfl ?_
    exact z_ireturn hX hR dX2_kernels_117 rfl hw
  · have hw := hw.2 c18
    refine z_iconst hX (v := (1 : Int32)) dX2_kernels_22 (by decide) ?_
    refine z_istore hX dX2_kernels_23 (i := 6) (Nat.le_of_ble_eq_true rfl) rfl (ls2 := [none, some (.int x1), some (va_rf x2), some (va_rf v1), some (.int p8), some (.int p9), some (.int (1 : Int32)), none]) rfl ?_
    obtain ⟨n82, hw⟩ := hw
    refine zIt_w (P := fun (j : Int32 → Int32 → zS → Prop) => ∀ (p19 : Int32) (p20 : Int32) (s21 : zS), j p19 p20 s21 → zW X s21 25 [none, some (.int x1), some (va_rf x2), some (va_rf v1), some (.int p19), some (.int p9), some (.int p20), none] []) (fun _ _ _ h => h.elim) (fun rec22 hrec22 p19 p20 s21 hw => ?_) n82 _ _ _ hw
    refine z_iload hX dX2_kernels_25 (i := 6) rfl ?_
    refine z_iconst hX (v := (1 : Int32)) dX2_kernels_27 (by decide) ?_
    refine z_aload_n hX dX2_kernels_28 rfl (i := 3) rfl ?_
    obtain ⟨a24, f25, v23, r26, m27, e28, hw⟩ := hw
    refine z_get hX zc22 (k := 1) dX2_kernels_29 (Nat.le_of_ble_eq_true rfl) (zlkN hX "PackingDuel" q501) r26 m27 e28 ?_
    refine z_ishl hX dX2_kernels_32 ?_
    refine z_icmp_ge hX dX2_kernels_33 (tgt := 109) rfl (fun c29 => ?_) (fun c29 => ?_)
    · have hw := hw.1 c29
      obtain ⟨v30, e31⟩ : ∃ y : Int32, y = p9 + (1 : Int32) := ⟨_, rfl⟩
      refine z_iinc hX dX2_kernels_109 (i := 5) (v := v30) rfl (by rw [e31]; rfl) (Nat.le_of_ble_eq_true rfl) rfl (ls2 := [none, some (.int x1), some (va_rf x2), some (va_rf v1), some (.int p19), some (.int v30), some (.int p20), none]) rfl ?_
      have hw := hw v30 e31
      refine z_goto hX dX2_kernels_112 (tgt := 11) rfl ?_
      refine z_sub (ls' := [none, some (.int x1), some (va_rf x2), some (va_rf v1), some (.int p19), some (.int v30), none, none]) (zsN (zsS (zsS (zsS (zsS (zsS (zsN (zsN (zs0))))))))) ?_
      exact hrec11 _ _ _ hw
    · have hw := hw.2 c29
      refine z_iload hX dX2_kernels_36 (i := 5) rfl ?_
      refine z_invS hX hd dX2_kernels_38 (hC 433 _ zm433 _ _ _ _ hw) q530 q531 zh24 q532 q154 zn433 rfl (Nat.le_of_ble_eq_true rfl) (st := []) rfl (zcs8 (Nat.le_of_ble_eq_true rfl)) rfl (zkI (fun v32 s33 hw => ?_)) (zout hX hR hTb)
      refine z_iload hX dX2_kernels_41 (i := 6) rfl ?_
      refine z_invS hX hd dX2_kernels_43 (hC 433 _ zm433 _ _ _ _ hw) q530 q531 zh24 q532 q154 zn433 rfl (Nat.le_of_ble_eq_true rfl) (st := [.int v32]) rfl (zcs8 (Nat.le_of_ble_eq_true rfl)) rfl (zkI (fun v35 s36 hw => ?_)) (zout hX hR hTb)
      refine zJ_w (P := fun (j : Int32 → zS → Prop) => ∀ (p38 : Int32) (s39 : zS), j p38 s39 → zW X s39 103 [none, some (.int x1), some (va_rf x2), some (va_rf v1), some (.int p38), some (.int p9), some (.int p20), none] []) hw (fun p38 s39 hw => ?_) (fun j40 hj40 hw => ?_)
      · obtain ⟨v41, e42⟩ : ∃ y : Int32, y = p20 + (1 : Int32) := ⟨_, rfl⟩
        refine z_iinc hX dX2_kernels_103 (i := 6) (v := v41) rfl (by rw [e42]; rfl) (Nat.le_of_ble_eq_true rfl) rfl (ls2 := [none, some (.int x1), some (va_rf x2), some (va_rf v1), some (.int p38), some (.int p9), some (.int v41), none]) rfl ?_
        have hw := hw v41 e42
        refine z_goto hX dX2_kernels_106 (tgt := 25) rfl ?_
        exact hrec22 _ _ _ hw
      · refine z_icmp_ne hX dX2_kernels_46 (tgt := 103) rfl (fun c43 => ?_) (fun c43 => ?_)
        · have hw := hw.1 c43
          exact hj40 _ _ hw
        · have hw := hw.2 c43
          refine z_iload_n hX dX2_kernels_49 rfl (i := 1) rfl ?_
          refine zJ_w (P := fun (j : zS → Prop) => ∀  (s44 : zS), j  s44 → zW X s44 65 [none, some (.int x1), some (va_rf x2), some (va_rf v1), some (.int p19), some (.int p9), some (.int p20), none] []) hw (fun  s44 hw => ?_) (fun j45 hj45 hw => ?_)
          · refine z_new hX zc23 dX2_kernels_65 q475 q536 q177 (fs := [va_rf none, .int 0, .int 0, va_rf none, va_rf none, .long 0, .long 0]) (fun j hj => by have hj : j < 7 := hj; exact zdf23 j hj) hw.1 hw.2.1 (fun z47 => z_nm (fun s46 e48 => ?_))
            have hw := hw.2.2 z47 s46 e48
            refine z_dup hX dX2_kernels_68 (zc_rf _) ?_
            refine z_aload_n hX dX2_kernels_69 rfl (i := 3) rfl ?_
            refine z_iload hX dX2_kernels_70 (i := 5) rfl ?_
            refine z_iload hX dX2_kernels_72 (i := 6) rfl ?_
            obtain ⟨a52, r53, hw⟩ := hw
            refine z_invI hX hd r53 dX2_kernels_74 (hC 497 _ zm497 _ _ _ _ hw) q537 q538 rfl zh44 q539 q177 zn497 rfl (Nat.le_of_ble_eq_true rfl) (st := [va_rf (some s44.2.1)]) rfl (zcs8 (Nat.le_of_ble_eq_true rfl)) rfl (zkV (fun s50 hw => ?_)) (zout hX hR hTb)
            refine z_astore hX dX2_kernels_77 (i := 7) (Nat.le_of_ble_eq_true rfl) rfl (ls2 := [none, some (.int x1), some (va_rf x2), some (va_rf v1), some (.int p19), some (.int p9), some (.int p20), some (va_rf (some s44.2.1))]) rfl ?_
            refine z_aload hX dX2_kernels_79 (i := 7) rfl ?_
            obtain ⟨a57, f58, r59, m60, hw⟩ := hw
            refine z_invV hX hd r59 (ci := 23) rfl rfl m60 dX2_kernels_81 (hC 500 _ zm500 _ _ _ _ hw) q591 q592 q593 zh44 q594 q177 zn500 rfl (Nat.le_of_ble_eq_true rfl) (st := []) rfl (zcs8 (Nat.le_of_ble_eq_true rfl)) rfl (zkI (fun v54 s55 hw => ?_)) (zout hX hR hTb)
            refine z_if_ne hX dX2_kernels_84 (tgt := 90) rfl (fun c61 => ?_) (fun c61 => ?_)
            · have hw := hw.1 c61
              refine z_iload hX dX2_kernels_90 (i := 4) rfl ?_
              refine zJ_w (P := fun (j : zS → Prop) => ∀  (s62 : zS), j  s62 → zW X s62 100 [none, some (.int x1), some (va_rf x2), some (va_rf v1), some (.int p19), some (.int p9), some (.int p20), none] []) hw (fun  s62 hw => ?_) (fun j63 hj63 hw => ?_)
              · obtain ⟨v64, e65⟩ : ∃ y : Int32, y = p19 + (1 : Int32) := ⟨_, rfl⟩
                refine z_iinc hX dX2_kernels_100 (i := 4) (v := v64) rfl (by rw [e65]; rfl) (Nat.le_of_ble_eq_true rfl) (zc_rf _) (ls2 := [none, some (.int x1), some (va_rf x2), some (va_rf v1), some (.int v64), some (.int p9), some (.int p20), none]) rfl ?_
                have hw := hw v64 e65
                exact hj40 _ _ hw
              · refine z_if_ne hX dX2_kernels_92 (tgt := 100) rfl (fun c66 => ?_) (fun c66 => ?_)
                · have hw := hw.1 c66
                  refine z_sub (ls' := [none, some (.int x1), some (va_rf x2), some (va_rf v1), some (.int p19), some (.int p9), some (.int p20), none]) (zsN (zsS (zsS (zsS (zsS (zsS (zsS (zsN (zs0))))))))) ?_
                  exact hj63  _ hw
                · have hw := hw.2 c66
                  refine z_aload_n hX dX2_kernels_95 rfl (i := 2) rfl ?_
                  refine z_iconst hX (v := (0 : Int32)) dX2_kernels_96 (by decide) ?_
                  refine z_aload hX dX2_kernels_97 (i := 7) rfl ?_
                  obtain ⟨a67, n68, f69, r70, g71, m72, i73, c74, hw⟩ := hw
                  refine z_aastM hX 6 dX2_kernels_99 rfl rfl (zfa1 ⟨_, rfl, Or.inl rfl⟩ (zfa0)) r70 g71 m72 i73 c74 (z_nm (fun s75 e76 => ?_))
                  have hw := hw s75 e76
                  refine z_sub (ls' := [none, some (.int x1), some (va_rf x2), some (va_rf v1), some (.int p19), some (.int p9), some (.int p20), none]) (zsN (zsS (zsS (zsS (zsS (zsS (zsS (zsN (zs0))))))))) ?_
                  exact hj63  _ hw
            · have hw := hw.2 c61
              refine z_goto hX dX2_kernels_87 (tgt := 103) rfl ?_
              refine z_sub (ls' := [none, some (.int x1), some (va_rf x2), some (va_rf v1), some (.int p19), some (.int p9), some (.int p20), none]) (zsN (zsS (zsS (zsS (zsS (zsS (zsS (zsN (zs0))))))))) ?_
              exact hj40 _ _ hw
          · refine z_if_le hX dX2_kernels_50 (tgt := 65) rfl (fun c77 => ?_) (fun c77 => ?_)
            · have hw := hw.1 c77
              exact hj45  _ hw
            · have hw := hw.2 c77
              refine z_iload hX dX2_kernels_53 (i := 5) rfl ?_
              refine z_invS hX hd dX2_kernels_55 (hC 433 _ zm433 _ _ _ _ hw) q530 q531 zh24 q532 q154 zn433 rfl (Nat.le_of_ble_eq_true rfl) (st := []) rfl (zcs8 (Nat.le_of_ble_eq_true rfl)) rfl (zkI (fun v78 s79 hw => ?_)) (zout hX hR hTb)
              refine z_iload_n hX dX2_kernels_58 rfl (i := 1) rfl ?_
              refine z_icmp_eq hX dX2_kernels_59 (tgt := 65) rfl (fun c81 => ?_) (fun c81 => ?_)
              · have hw := hw.1 c81
                exact hj45  _ hw
              · have hw := hw.2 c81
                refine z_goto hX dX2_kernels_62 (tgt := 103) rfl ?_
                exact hj40 _ _ hw
abbrev cX2_matrix : ByteArray := prog_20_method_21_code
def yX2_matrix : MethodName := ⟨RX2, "matrix", "()LPackingDuel$Matrix;"⟩
def dkwX2_matrix_3 : List UInt8 := [192, 0, 39, 182, 0, 205, 182, 0, 208, 79, 132, 3, 1, 167, 255, 205, 132, 2, 1, 167, 255, 189, 43, 176]
abbrev dktX2_matrix_3 : List UInt8 := dkwX2_matrix_3 ++ []
def dkwX2_matrix_2 : List UInt8 := [29, 42, 42, 180, 0, 18, 28, 182, 0, 29, 192, 0, 39, 182, 0, 205, 42, 180, 0, 21, 29, 182, 0, 29]
abbrev dktX2_matrix_2 : List UInt8 := dkwX2_matrix_2 ++ dktX2_matrix_3
def dkwX2_matrix_1 : List UInt8 := [28, 43, 180, 0, 198, 162, 0, 65, 3, 62, 29, 43, 180, 0, 200, 162, 0, 49, 43, 180, 0, 202, 28, 50]
abbrev dktX2_matrix_1 : List UInt8 := dkwX2_matrix_1 ++ dktX2_matrix_2
def dkwX2_matrix_0 : List UInt8 := [187, 0, 195, 89, 42, 180, 0, 18, 182, 0, 25, 42, 180, 0, 21, 182, 0, 25, 183, 0, 197, 76, 3, 61]
abbrev dktX2_matrix_0 : List UInt8 := dkwX2_matrix_0 ++ dktX2_matrix_1
theorem dksX2_matrix_0 : cX2_matrix.data.toList.drop 0 = dktX2_matrix_0 := by decide +kernel
theorem dksX2_matrix_1 : cX2_matrix.data.toList.drop 24 = dktX2_matrix_1 := dk_seg dksX2_matrix_0 24 rfl rfl
theorem dksX2_matrix_2 : cX2_matrix.data.toList.drop 48 = dktX2_matrix_2 := dk_seg dksX2_matrix_1 24 rfl rfl
theorem dksX2_matrix_3 : cX2_matrix.data.toList.drop 72 = dktX2_matrix_3 := dk_seg dksX2_matrix_2 24 rfl rfl
theorem dX2_matrix_0 : decode cX2_matrix 0 = .ok (.new 195, 3) := dk_187 0 195 (dk_at dksX2_matrix_0 0 rfl rfl)
theorem dX2_matrix_3 : decode cX2_matrix 3 = .ok (.dup, 1) := dk_89 (dk_at dksX2_matrix_0 3 rfl rfl)
theorem dX2_matrix_4 : decode cX2_matrix 4 = .ok (.aload_n 0, 1) := dk_42 (dk_at dksX2_matrix_0 4 rfl rfl)
theorem dX2_matrix_5 : decode cX2_matrix 5 = .ok (.getfield 18, 3) := dk_180 0 18 (dk_at dksX2_matrix_0 5 rfl rfl)
theorem dX2_matrix_8 : decode cX2_matrix 8 = .ok (.invokevirtual 25, 3) := dk_182 0 25 (dk_at dksX2_matrix_0 8 rfl rfl)
theorem dX2_matrix_11 : decode cX2_matrix 11 = .ok (.aload_n 0, 1) := dk_42 (dk_at dksX2_matrix_0 11 rfl rfl)
theorem dX2_matrix_12 : decode cX2_matrix 12 = .ok (.getfield 21, 3) := dk_180 0 21 (dk_at dksX2_matrix_0 12 rfl rfl)
theorem dX2_matrix_15 : decode cX2_matrix 15 = .ok (.invokevirtual 25, 3) := dk_182 0 25 (dk_at dksX2_matrix_0 15 rfl rfl)
theorem dX2_matrix_18 : decode cX2_matrix 18 = .ok (.invokespecial 197, 3) := dk_183 0 197 (dk_at dksX2_matrix_0 18 rfl rfl)
theorem dX2_matrix_21 : decode cX2_matrix 21 = .ok (.astore_n 1, 1) := dk_76 (dk_at dksX2_matrix_0 21 rfl rfl)
theorem dX2_matrix_22 : decode cX2_matrix 22 = .ok (.iconst 0, 1) := dk_3 (dk_at dksX2_matrix_0 22 rfl rfl)
theorem dX2_matrix_23 : decode cX2_matrix 23 = .ok (.istore_n 2, 1) := dk_61 (dk_at dksX2_matrix_0 23 rfl rfl)
theorem dX2_matrix_24 : decode cX2_matrix 24 = .ok (.iload_n 2, 1) := dk_28 (dk_at dksX2_matrix_1 0 rfl rfl)
theorem dX2_matrix_25 : decode cX2_matrix 25 = .ok (.aload_n 1, 1) := dk_43 (dk_at dksX2_matrix_1 1 rfl rfl)
theorem dX2_matrix_26 : decode cX2_matrix 26 = .ok (.getfield 198, 3) := dk_180 0 198 (dk_at dksX2_matrix_1 2 rfl rfl)
theorem dX2_matrix_29 : decode cX2_matrix 29 = .ok (.if_icmp .ge 65, 3) := dk_162 0 65 (dk_at dksX2_matrix_1 5 rfl rfl)
theorem dX2_matrix_32 : decode cX2_matrix 32 = .ok (.iconst 0, 1) := dk_3 (dk_at dksX2_matrix_1 8 rfl rfl)
theorem dX2_matrix_33 : decode cX2_matrix 33 = .ok (.istore_n 3, 1) := dk_62 (dk_at dksX2_matrix_1 9 rfl rfl)
theorem dX2_matrix_34 : decode cX2_matrix 34 = .ok (.iload_n 3, 1) := dk_29 (dk_at dksX2_matrix_1 10 rfl rfl)
theorem dX2_matrix_35 : decode cX2_matrix 35 = .ok (.aload_n 1, 1) := dk_43 (dk_at dksX2_matrix_1 11 rfl rfl)
theorem dX2_matrix_36 : decode cX2_matrix 36 = .ok (.getfield 200, 3) := dk_180 0 200 (dk_at dksX2_matrix_1 12 rfl rfl)
theorem dX2_matrix_39 : decode cX2_matrix 39 = .ok (.if_icmp .ge 49, 3) := dk_162 0 49 (dk_at dksX2_matrix_1 15 rfl rfl)
theorem dX2_matrix_42 : decode cX2_matrix 42 = .ok (.aload_n 1, 1) := dk_43 (dk_at dksX2_matrix_1 18 rfl rfl)
theorem dX2_matrix_43 : decode cX2_matrix 43 = .ok (.getfield 202, 3) := dk_180 0 202 (dk_at dksX2_matrix_1 19 rfl rfl)
theorem dX2_matrix_46 : decode cX2_matrix 46 = .ok (.iload_n 2, 1) := dk_28 (dk_at dksX2_matrix_1 22 rfl rfl)
theorem dX2_matrix_47 : decode cX2_matrix 47 = .ok (.aaload, 1) := dk_50 (dk_at dksX2_matrix_1 23 rfl rfl)
theorem dX2_matrix_48 : decode cX2_matrix 48 = .ok (.iload_n 3, 1) := dk_29 (dk_at dksX2_matrix_2 0 rfl rfl)
theorem dX2_matrix_49 : decode cX2_matrix 49 = .ok (.aload_n 0, 1) := dk_42 (dk_at dksX2_matrix_2 1 rfl rfl)
theorem dX2_matrix_50 : decode cX2_matrix 50 = .ok (.aload_n 0, 1) := dk_42 (dk_at dksX2_matrix_2 2 rfl rfl)
theorem dX2_matrix_51 : decode cX2_matrix 51 = .ok (.getfield 18, 3) := dk_180 0 18 (dk_at dksX2_matrix_2 3 rfl rfl)
theorem dX2_matrix_54 : decode cX2_matrix 54 = .ok (.iload_n 2, 1) := dk_28 (dk_at dksX2_matrix_2 6 rfl rfl)
theorem dX2_matrix_55 : decode cX2_matrix 55 = .ok (.invokevirtual 29, 3) := dk_182 0 29 (dk_at dksX2_matrix_2 7 rfl rfl)
theorem dX2_matrix_58 : decode cX2_matrix 58 = .ok (.checkcast 39, 3) := dk_192 0 39 (dk_at dksX2_matrix_2 10 rfl rfl)
theorem dX2_matrix_61 : decode cX2_matrix 61 = .ok (.invokevirtual 205, 3) := dk_182 0 205 (dk_at dksX2_matrix_2 13 rfl rfl)
theorem dX2_matrix_64 : decode cX2_matrix 64 = .ok (.aload_n 0, 1) := dk_42 (dk_at dksX2_matrix_2 16 rfl rfl)
theorem dX2_matrix_65 : decode cX2_matrix 65 = .ok (.getfield 21, 3) := dk_180 0 21 (dk_at dksX2_matrix_2 17 rfl rfl)
theorem dX2_matrix_68 : decode cX2_matrix 68 = .ok (.iload_n 3, 1) := dk_29 (dk_at dksX2_matrix_2 20 rfl rfl)
theorem dX2_matrix_69 : decode cX2_matrix 69 = .ok (.invokevirtual 29, 3) := dk_182 0 29 (dk_at dksX2_matrix_2 21 rfl rfl)
theorem dX2_matrix_72 : decode cX2_matrix 72 = .ok (.checkcast 39, 3) := dk_192 0 39 (dk_at dksX2_matrix_3 0 rfl rfl)
theorem dX2_matrix_75 : decode cX2_matrix 75 = .ok (.invokevirtual 205, 3) := dk_182 0 205 (dk_at dksX2_matrix_3 3 rfl rfl)
theorem dX2_matrix_78 : decode cX2_matrix 78 = .ok (.invokevirtual 208, 3) := dk_182 0 208 (dk_at dksX2_matrix_3 6 rfl rfl)
theorem dX2_matrix_81 : decode cX2_matrix 81 = .ok (.iastore, 1) := dk_79 (dk_at dksX2_matrix_3 9 rfl rfl)
theorem dX2_matrix_82 : decode cX2_matrix 82 = .ok (.iinc 3 1, 3) := dk_132 3 1 (dk_at dksX2_matrix_3 10 rfl rfl)
theorem dX2_matrix_85 : decode cX2_matrix 85 = .ok (.goto (-51), 3) := dk_167 255 205 (dk_at dksX2_matrix_3 13 rfl rfl)
theorem dX2_matrix_88 : decode cX2_matrix 88 = .ok (.iinc 2 1, 3) := dk_132 2 1 (dk_at dksX2_matrix_3 16 rfl rfl)
theorem dX2_matrix_91 : decode cX2_matrix 91 = .ok (.goto (-67), 3) := dk_167 255 189 (dk_at dksX2_matrix_3 19 rfl rfl)
theorem dX2_matrix_94 : decode cX2_matrix 94 = .ok (.aload_n 1, 1) := dk_43 (dk_at dksX2_matrix_3 22 rfl rfl)
theorem dX2_matrix_95 : decode cX2_matrix 95 = .ok (.areturn, 1) := dk_176 (dk_at dksX2_matrix_3 23 rfl rfl)
/-- PackingDuel$State.matrix()LPackingDuel$Matrix; -/
def zb92 (G : zPg) (C : zO) (args : List Value) (Q : zQ) (Y : zY) (σ : zS) : Prop := ∃ (a0 : Nat), args = [.ref a0] ∧ (znew σ 22 [.int 0, .int 0, va_rf none] 3 (fun s1 => zgR s1 (some a0) 1 1 (fun v4 => zrc s1 v4 2 (fun a13 => zcl C 128 [.ref a13] Y s1 (zqI (fun v10 s11 => zgR s11 (some a0) 1 2 (fun v17 => zrc s11 v17 2 (fun a26 => zcl C 128 [.ref a26] Y s11 (zqI (fun v23 s24 => (∃ a33, (some σ.2.1) = some a33 ∧ zcl C 494 [.ref a33, .int v10, .int v23] Y s24 (zqV (fun s31 => ∃ n, zIt (fun _ _ => False) (fun rec37 (p35 : Int32) (s36 : zS) => zgI s36 (some σ.2.1) 22 0 (fun v38 => ((v38 ≤ p35) → Q (some (va_rf (some σ.2.1))) s36) ∧ ((¬ v38 ≤ p35) → ∃ n, zIt (fun _ _ => False) (fun rec47 (p45 : Int32) (s46 : zS) => zgI s46 (some σ.2.1) 22 1 (fun v48 => ((v48 ≤ p45) → (∀ v55 : Int32, v55 = p35 + (1 : Int32) → rec37 v55 s46)) ∧ ((¬ v48 ≤ p45) → zgR s46 (some σ.2.1) 22 2 (fun v57 => zaR s46 5 v57 p35 (fun v69 => zgR s46 (some a0) 1 1 (fun v71 => zrc s46 v71 2 (fun a80 => zcl C 129 [.ref a80, .int p35] Y s46 (zqR (fun v77 s78 => (zcst s78 v77 [10] ∧ zrc s78 v77 10 (fun a87 => zcl C 432 [.ref a87] Y s78 (zqI (fun v84 s85 => zgR s85 (some a0) 1 2 (fun v91 => zrc s85 v91 2 (fun a100 => zcl C 129 [.ref a100, .int p45] Y s85 (zqR (fun v97 s98 => (zcst s98 v97 [10] ∧ zrc s98 v97 10 (fun a107 => zcl C 432 [.ref a107] Y s98 (zqI (fun v104 s105 => zrc s105 (some a0) 1 (fun a114 => zcl C 93 [.ref a114, .int v84, .int v104] Y s105 (zqI (fun v111 s112 => zsI s112 G.1 0 v69 p45 v111 (fun s125 => (∀ v127 : Int32, v127 = p45 + (1 : Int32) → rec47 v127 s125)))))))))))))))))))))))))) n (0 : Int32) s36))) n (0 : Int32) s31)))))))))))))
set_option maxHeartbeats 4000000 in
theorem wk92 {l : Launch} {g : zG} {d : Nat} {C : zO} (hG : zGk g) (hC : zSound l g d C) {args : List Value} {Q : zQ} {Y : zY} {σ : zS} (hw : zb92 (zpg g) C args Q Y σ) : zMet l g (d + 1) (⟨"PackingDuel$State", "matrix", "()LPackingDuel$Matrix;"⟩, Cond.code ⟨"PackingDuel$State", "matrix", "()LPackingDuel$Matrix;"⟩ prog_20_method_21_code 4 (Option.some (FieldType.object "PackingDuel$Matrix"))) args σ Q Y := by
  obtain ⟨a0, rfl, hw⟩ := hw
  refine zof hG (by decide +kernel) [false] ⟨rfl, trivial⟩ (Nat.le_of_ble_eq_true rfl) (ls := [some (va_rf (some a0)), none, none, none]) rfl ?_
  intro X hX hR hTb hd1 hd2 hl hg hnm
  subst hl
  subst hg
  have hd : zDep X d := ⟨hd1, hd2⟩
  refine z_new hX zc22 dX2_matrix_0 q489 q490 q176 (fs := [.int 0, .int 0, va_rf none]) (fun j hj => by have hj : j < 3 := hj; exact zdf22 j hj) hw.1 hw.2.1 (fun z2 => z_nm (fun s1 e3 => ?_))
  have hw := hw.2.2 z2 s1 e3
  refine z_dup hX dX2_matrix_3 (zc_rf _) ?_
  refine z_aload_n hX dX2_matrix_4 rfl (i := 0) rfl ?_
  obtain ⟨a5, f6, v4, r7, m8, e9, hw⟩ := hw
  refine z_get hX zc1 (k := 1) dX2_matrix_5 (Nat.le_of_ble_eq_true rfl) (zlk hX q229) r7 m8 e9 ?_
  obtain ⟨a13, f14, r15, m16, hw⟩ := hw
  refine z_invV hX hd r15 (ci := 2) rfl rfl m16 dX2_matrix_8 (hC 128 _ zm128 _ _ _ _ hw) q477 q362 q363 zh5 q364 q134 zn128 rfl (Nat.le_of_ble_eq_true rfl) (st := [va_rf (some σ.2.1), va_rf (some σ.2.1)]) rfl (zcs8 (Nat.le_of_ble_eq_true rfl)) rfl (zkI (fun v10 s11 hw => ?_)) (zout hX hR hTb)
  refine z_aload_n hX dX2_matrix_11 rfl (i := 0) rfl ?_
  obtain ⟨a18, f19, v17, r20, m21, e22, hw⟩ := hw
  refine z_get hX zc1 (k := 2) dX2_matrix_12 (Nat.le_of_ble_eq_true rfl) (zlk hX q231) r20 m21 e22 ?_
  obtain ⟨a26, f27, r28, m29, hw⟩ := hw
  refine z_invV hX hd r28 (ci := 2) rfl rfl m29 dX2_matrix_15 (hC 128 _ zm128 _ _ _ _ hw) q477 q362 q363 zh5 q364 q134 zn128 rfl (Nat.le_of_ble_eq_true rfl) (st := [.int v10, va_rf (some σ.2.1), va_rf (some σ.2.1)]) rfl (zcs8 (Nat.le_of_ble_eq_true rfl)) rfl (zkI (fun v23 s24 hw => ?_)) (zout hX hR hTb)
  obtain ⟨a33, r34, hw⟩ := hw
  refine z_invI hX hd r34 dX2_matrix_18 (hC 494 _ zm494 _ _ _ _ hw) q491 q492 rfl zh43 q493 q176 zn494 rfl (Nat.le_of_ble_eq_true rfl) (st := [va_rf (some σ.2.1)]) rfl (zcs8 (Nat.le_of_ble_eq_true rfl)) rfl (zkV (fun s31 hw => ?_)) (zout hX hR hTb)
  refine z_astore_n hX dX2_matrix_21 rfl (i := 1) (Nat.le_of_ble_eq_true rfl) (zc_rf _) (ls2 := [some (va_rf (some a0)), some (va_rf (some σ.2.1)), none, none]) rfl ?_
  refine z_iconst hX (v := (0 : Int32)) dX2_matrix_22 (by decide) ?_
  refine z_istore_n hX dX2_matrix_23 rfl (i := 2) (Nat.le_of_ble_eq_true rfl) (zc_rf _) (ls2 := [some (va_rf (some a0)), some (va_rf (some σ.2.1)), some (.int (0 : Int32)), none]) rfl ?_
  obtain ⟨n130, hw⟩ := hw
  refine zIt_w (P := fun (j : Int32 → zS → Prop) => ∀ (p35 : Int32) (s36 : zS), j p35 s36 → zW X s36 24 [some (va_rf (some a0)), some (va_rf (some σ.2.1)), some (.int p35), none] []) (fun _ _ h => h.elim) (fun rec37 hrec37 p35 s36 hw => ?_) n130 _ _ hw
  refine z_iload_n hX dX2_matrix_24 rfl (i := 2) rfl ?_
  refine z_aload_n hX dX2_matrix_25 rfl (i := 1) rfl ?_
  obtain ⟨a39, f40, v38, r41, m42, e43, hw⟩ := hw
  refine z_get hX zc22 (k := 0) dX2_matrix_26 (Nat.le_of_ble_eq_true rfl) (zlkN hX "PackingDuel" q498) r41 m42 e43 ?_
  refine z_icmp_ge hX dX2_matrix_29 (tgt := 94) rfl (fun c44 => ?_) (fun c44 => ?_)
  · have hw := hw.1 c44
    refine z_aload_n hX dX2_matrix_94 rfl (i := 1) rfl ?_
    exact z_areturn hX hR dX2_matrix_95 (Or.inl ⟨_, rfl⟩) hw
  · have hw := hw.2 c44
    refine z_iconst hX (v := (0 : Int32)) dX2_matrix_32 (by decide) ?_
    refine z_istore_n hX dX2_matrix_33 rfl (i := 3) (Nat.le_of_ble_eq_true rfl) rfl (ls2 := [some (va_rf (some a0)), some (va_rf (some σ.2.1)), some (.int p35), some (.int (0 : Int32))]) rfl ?_
    obtain ⟨n129, hw⟩ := hw
    refine zIt_w (P := fun (j : Int32 → zS → Prop) => ∀ (p45 : Int32) (s46 : zS), j p45 s46 → zW X s46 34 [some (va_rf (some a0)), some (va_rf (some σ.2.1)), some (.int p35), some (.int p45)] []) (fun _ _ h => h.elim) (fun rec47 hrec47 p45 s46 hw => ?_) n129 _ _ hw
    refine z_iload_n hX dX2_matrix_34 rfl (i := 3) rfl ?_
    refine z_aload_n hX dX2_matrix_35 rfl (i := 1) rfl ?_
    obtain ⟨a49, f50, v48, r51, m52, e53, hw⟩ := hw
    refine z_get hX zc22 (k := 1) dX2_matrix_36 (Nat.le_of_ble_eq_true rfl) (zlkN hX "PackingDuel" q501) r51 m52 e53 ?_
    refine z_icmp_ge hX dX2_matrix_39 (tgt := 88) rfl (fun c54 => ?_) (fun c54 => ?_)
    · have hw := hw.1 c54
      obtain ⟨v55, e56⟩ : ∃ y : Int32, y = p35 + (1 : Int32) := ⟨_, rfl⟩
      refine z_iinc hX dX2_matrix_88 (i := 2) (v := v55) rfl (by rw [e56]; rfl) (Nat.le_of_ble_eq_true rfl) (zc_rf _) (ls2 := [some (va_rf (some a0)), some (va_rf (some σ.2.1)), some (.int v55), some (.int p45)]) rfl ?_
      have hw := hw v55 e56
      refine z_goto hX dX2_matrix_91 (tgt := 24) rfl ?_
      refine z_sub (ls' := [some (va_rf (some a0)), some (va_rf (some σ.2.1)), some (.int v55), none]) (zsS (zsS (zsS (zsN (zs0))))) ?_
      exact hrec37 _ _ hw
    · have hw := hw.2 c54
      refine z_aload_n hX dX2_matrix_42 rfl (i := 1) rfl ?_
      obtain ⟨a58, f59, v57, r60, m61, e62, hw⟩ := hw
      refine z_get hX zc22 (k := 2) dX2_matrix_43 (Nat.le_of_ble_eq_true rfl) (zlkN hX "PackingDuel" q504) r60 m61 e62 ?_
      refine z_iload_n hX dX2_matrix_46 rfl (i := 2) rfl ?_
      obtain ⟨a63, n64, f65, r66, m67, i68, hw⟩ := hw
      refine z_aald hX 5 dX2_matrix_47 rfl r66 m67 i68 ?_
      revert hw
      generalize f65 (Int32.toNatClampNeg p35) = v69
      intro hw
      refine z_iload_n hX dX2_matrix_48 rfl (i := 3) rfl ?_
      refine z_aload_n hX dX2_matrix_49 rfl (i := 0) rfl ?_
      refine z_aload_n hX dX2_matrix_50 rfl (i := 0) rfl ?_
      obtain ⟨a72, f73, v71, r74, m75, e76, hw⟩ := hw
      refine z_get hX zc1 (k := 1) dX2_matrix_51 (Nat.le_of_ble_eq_true rfl) (zlk hX q229) r74 m75 e76 ?_
      refine z_iload_n hX dX2_matrix_54 rfl (i := 2) rfl ?_
      obtain ⟨a80, f81, r82, m83, hw⟩ := hw
      refine z_invV hX hd r82 (ci := 2) rfl rfl m83 dX2_matrix_55 (hC 129 _ zm129 _ _ _ _ hw) q512 q372 q373 zh5 q374 q134 zn129 rfl (Nat.le_of_ble_eq_true rfl) (st := [va_rf (some a0), .int p45, va_rf v69]) rfl (zcs8 (Nat.le_of_ble_eq_true rfl)) rfl (zkR (fun v77 s78 hw => ?_)) (zout hX hR hTb)
      refine z_cast hX dX2_matrix_58 q513 (zfa1 ⟨_, rfl, Or.inl rfl⟩ (zfa0)) hw.1 ?_
      have hw := hw.2
      obtain ⟨a87, f88, r89, m90, hw⟩ := hw
      refine z_invV hX hd r89 (ci := 10) rfl rfl m90 dX2_matrix_61 (hC 432 _ zm432 _ _ _ _ hw) q514 q515 q516 zh24 q517 q154 zn432 rfl (Nat.le_of_ble_eq_true rfl) (st := [va_rf (some a0), .int p45, va_rf v69]) rfl (zcs8 (Nat.le_of_ble_eq_true rfl)) rfl (zkI (fun v84 s85 hw => ?_)) (zout hX hR hTb)
      refine z_aload_n hX dX2_matrix_64 rfl (i := 0) rfl ?_
      obtain ⟨a92, f93, v91, r94, m95, e96, hw⟩ := hw
      refine z_get hX zc1 (k := 2) dX2_matrix_65 (Nat.le_of_ble_eq_true rfl) (zlk hX q231) r94 m95 e96 ?_
      refine z_iload_n hX dX2_matrix_68 rfl (i := 3) rfl ?_
      obtain ⟨a100, f101, r102, m103, hw⟩ := hw
      refine z_invV hX hd r102 (ci := 2) rfl rfl m103 dX2_matrix_69 (hC 129 _ zm129 _ _ _ _ hw) q512 q372 q373 zh5 q374 q134 zn129 rfl (Nat.le_of_ble_eq_true rfl) (st := [.int v84, va_rf (some a0), .int p45, va_rf v69]) rfl (zcs8 (Nat.le_of_ble_eq_true rfl)) rfl (zkR (fun v97 s98 hw => ?_)) (zout hX hR hTb)
      refine z_cast hX dX2_matrix_72 q513 (zfa1 ⟨_, rfl, Or.inl rfl⟩ (zfa0)) hw.1 ?_
      have hw := hw.2
      obtain ⟨a107, f108, r109, m110, hw⟩ := hw
      refine z_invV hX hd r109 (ci := 10) rfl rfl m110 dX2_matrix_75 (hC 432 _ zm432 _ _ _ _ hw) q514 q515 q516 zh24 q517 q154 zn432 rfl (Nat.le_of_ble_eq_true rfl) (st := [.int v84, va_rf (some a0), .int p45, va_rf v69]) rfl (zcs8 (Nat.le_of_ble_eq_true rfl)) rfl (zkI (fun v104 s105 hw => ?_)) (zout hX hR hTb)
      obtain ⟨a114, f115, r116, m117, hw⟩ := hw
      refine z_invV hX hd r116 (ci := 1) rfl rfl m117 dX2_matrix_78 (hC 93 _ zm93 _ _ _ _ hw) q518 q519 q520 zh2 q521 q131 zn93 rfl (Nat.le_of_ble_eq_true rfl) (st := [.int p45, va_rf v69]) rfl (zcs8 (Nat.le_of_ble_eq_true rfl)) rfl (zkI (fun v111 s112 hw => ?_)) (zout hX hR hTb)
      obtain ⟨a118, n119, f120, r121, g122, m123, i124, hw⟩ := hw
      refine z_iast hX dX2_matrix_81 r121 g122 m123 i124 (z_nm (fun s125 e126 => ?_))
      have hw := hw s125 e126
      obtain ⟨v127, e128⟩ : ∃ y : Int32, y = p45 + (1 : Int32) := ⟨_, rfl⟩
      refine z_iinc hX dX2_matrix_82 (i := 3) (v := v127) rfl (by rw [e128]; rfl) (Nat.le_of_ble_eq_true rfl) rfl (ls2 := [some (va_rf (some a0)), some (va_rf (some σ.2.1)), some (.int p35), some (.int v127)]) rfl ?_
      have hw := hw v127 e128
      refine z_goto hX dX2_matrix_85 (tgt := 34) rfl ?_
      exact hrec47 _ _ hw
abbrev cX2_payoff : ByteArray := prog_20_method_20_code
def yX2_payoff : MethodName := ⟨RX2, "payoff", "(II)I"⟩
def dkwX2_payoff_4 : List UInt8 := [132, 5, 1, 167, 255, 192, 21, 4, 172]
abbrev dktX2_payoff_4 : List UInt8 := dkwX2_payoff_4 ++ []
def dkwX2_payoff_3 : List UInt8 := [29, 42, 21, 5, 3, 182, 0, 192, 100, 62, 21, 4, 42, 21, 5, 6, 182, 0, 192, 100, 54, 4]
abbrev dktX2_payoff_3 : List UInt8 := dkwX2_payoff_3 ++ dktX2_payoff_4
def dkwX2_payoff_2 : List UInt8 := [130, 126, 21, 5, 184, 0, 188, 153, 0, 39, 42, 21, 5, 3, 182, 0, 192, 29, 164, 0, 6, 167, 0, 25]
abbrev dktX2_payoff_2 : List UInt8 := dkwX2_payoff_2 ++ dktX2_payoff_3
def dkwX2_payoff_1 : List UInt8 := [162, 0, 6, 21, 4, 172, 3, 54, 5, 21, 5, 42, 180, 0, 12, 182, 0, 25, 162, 0, 58, 28, 27, 2]
abbrev dktX2_payoff_1 : List UInt8 := dkwX2_payoff_1 ++ dktX2_payoff_2
def dkwX2_payoff_0 : List UInt8 := [42, 27, 182, 0, 94, 62, 42, 182, 0, 80, 180, 0, 122, 4, 50, 27, 46, 54, 4, 29, 42, 180, 0, 45]
abbrev dktX2_payoff_0 : List UInt8 := dkwX2_payoff_0 ++ dktX2_payoff_1
theorem dksX2_payoff_0 : cX2_payoff.data.toList.drop 0 = dktX2_payoff_0 := by decide +kernel
theorem dksX2_payoff_1 : cX2_payoff.data.toList.drop 24 = dktX2_payoff_1 := dk_seg dksX2_payoff_0 24 rfl rfl
theorem dksX2_payoff_2 : cX2_payoff.data.toList.drop 48 = dktX2_payoff_2 := dk_seg dksX2_payoff_1 24 rfl rfl
theorem dksX2_payoff_3 : cX2_payoff.data.toList.drop 72 = dktX2_payoff_3 := dk_seg dksX2_payoff_2 24 rfl rfl
theorem dksX2_payoff_4 : cX2_payoff.data.toList.drop 94 = dktX2_payoff_4 := dk_seg dksX2_payoff_3 22 rfl rfl
theorem dX2_payoff_0 : decode cX2_payoff 0 = .ok (.aload_n 0, 1) := dk_42 (dk_at dksX2_payoff_0 0 rfl rfl)
theorem dX2_payoff_1 : decode cX2_payoff 1 = .ok (.iload_n 1, 1) := dk_27 (dk_at dksX2_payoff_0 1 rfl rfl)
theorem dX2_payoff_2 : decode cX2_payoff 2 = .ok (.invokevirtual 94, 3) := dk_182 0 94 (dk_at dksX2_payoff_0 2 rfl rfl)
theorem dX2_payoff_5 : decode cX2_payoff 5 = .ok (.istore_n 3, 1) := dk_62 (dk_at dksX2_payoff_0 5 rfl rfl)
theorem dX2_payoff_6 : decode cX2_payoff 6 = .ok (.aload_n 0, 1) := dk_42 (dk_at dksX2_payoff_0 6 rfl rfl)
theorem dX2_payoff_7 : decode cX2_payoff 7 = .ok (.invokevirtual 80, 3) := dk_182 0 80 (dk_at dksX2_payoff_0 7 rfl rfl)
theorem dX2_payoff_10 : decode cX2_payoff 10 = .ok (.getfield 122, 3) := dk_180 0 122 (dk_at dksX2_payoff_0 10 rfl rfl)
theorem dX2_payoff_13 : decode cX2_payoff 13 = .ok (.iconst 1, 1) := dk_4 (dk_at dksX2_payoff_0 13 rfl rfl)
theorem dX2_payoff_14 : decode cX2_payoff 14 = .ok (.aaload, 1) := dk_50 (dk_at dksX2_payoff_0 14 rfl rfl)
theorem dX2_payoff_15 : decode cX2_payoff 15 = .ok (.iload_n 1, 1) := dk_27 (dk_at dksX2_payoff_0 15 rfl rfl)
theorem dX2_payoff_16 : decode cX2_payoff 16 = .ok (.iaload, 1) := dk_46 (dk_at dksX2_payoff_0 16 rfl rfl)
theorem dX2_payoff_17 : decode cX2_payoff 17 = .ok (.istore 4, 2) := dk_54 4 (dk_at dksX2_payoff_0 17 rfl rfl)
theorem dX2_payoff_19 : decode cX2_payoff 19 = .ok (.iload_n 3, 1) := dk_29 (dk_at dksX2_payoff_0 19 rfl rfl)
theorem dX2_payoff_20 : decode cX2_payoff 20 = .ok (.aload_n 0, 1) := dk_42 (dk_at dksX2_payoff_0 20 rfl rfl)
theorem dX2_payoff_21 : decode cX2_payoff 21 = .ok (.getfield 45, 3) := dk_180 0 45 (dk_at dksX2_payoff_0 21 rfl rfl)
theorem dX2_payoff_24 : decode cX2_payoff 24 = .ok (.if_icmp .ge 6, 3) := dk_162 0 6 (dk_at dksX2_payoff_1 0 rfl rfl)
theorem dX2_payoff_27 : decode cX2_payoff 27 = .ok (.iload 4, 2) := dk_21 4 (dk_at dksX2_payoff_1 3 rfl rfl)
theorem dX2_payoff_29 : decode cX2_payoff 29 = .ok (.ireturn, 1) := dk_172 (dk_at dksX2_payoff_1 5 rfl rfl)
theorem dX2_payoff_30 : decode cX2_payoff 30 = .ok (.iconst 0, 1) := dk_3 (dk_at dksX2_payoff_1 6 rfl rfl)
theorem dX2_payoff_31 : decode cX2_payoff 31 = .ok (.istore 5, 2) := dk_54 5 (dk_at dksX2_payoff_1 7 rfl rfl)
theorem dX2_payoff_33 : decode cX2_payoff 33 = .ok (.iload 5, 2) := dk_21 5 (dk_at dksX2_payoff_1 9 rfl rfl)
theorem dX2_payoff_35 : decode cX2_payoff 35 = .ok (.aload_n 0, 1) := dk_42 (dk_at dksX2_payoff_1 11 rfl rfl)
theorem dX2_payoff_36 : decode cX2_payoff 36 = .ok (.getfield 12, 3) := dk_180 0 12 (dk_at dksX2_payoff_1 12 rfl rfl)
theorem dX2_payoff_39 : decode cX2_payoff 39 = .ok (.invokevirtual 25, 3) := dk_182 0 25 (dk_at dksX2_payoff_1 15 rfl rfl)
theorem dX2_payoff_42 : decode cX2_payoff 42 = .ok (.if_icmp .ge 58, 3) := dk_162 0 58 (dk_at dksX2_payoff_1 18 rfl rfl)
theorem dX2_payoff_45 : decode cX2_payoff 45 = .ok (.iload_n 2, 1) := dk_28 (dk_at dksX2_payoff_1 21 rfl rfl)
theorem dX2_payoff_46 : decode cX2_payoff 46 = .ok (.iload_n 1, 1) := dk_27 (dk_at dksX2_payoff_1 22 rfl rfl)
theorem dX2_payoff_47 : decode cX2_payoff 47 = .ok (.iconst (-1), 1) := dk_2 (dk_at dksX2_payoff_1 23 rfl rfl)
theorem dX2_payoff_48 : decode cX2_payoff 48 = .ok (.ixor, 1) := dk_130 (dk_at dksX2_payoff_2 0 rfl rfl)
theorem dX2_payoff_49 : decode cX2_payoff 49 = .ok (.iand, 1) := dk_126 (dk_at dksX2_payoff_2 1 rfl rfl)
theorem dX2_payoff_50 : decode cX2_payoff 50 = .ok (.iload 5, 2) := dk_21 5 (dk_at dksX2_payoff_2 2 rfl rfl)
theorem dX2_payoff_52 : decode cX2_payoff 52 = .ok (.invokestatic 188, 3) := dk_184 0 188 (dk_at dksX2_payoff_2 4 rfl rfl)
theorem dX2_payoff_55 : decode cX2_payoff 55 = .ok (.ifCond .eq 39, 3) := dk_153 0 39 (dk_at dksX2_payoff_2 7 rfl rfl)
theorem dX2_payoff_58 : decode cX2_payoff 58 = .ok (.aload_n 0, 1) := dk_42 (dk_at dksX2_payoff_2 10 rfl rfl)
theorem dX2_payoff_59 : decode cX2_payoff 59 = .ok (.iload 5, 2) := dk_21 5 (dk_at dksX2_payoff_2 11 rfl rfl)
theorem dX2_payoff_61 : decode cX2_payoff 61 = .ok (.iconst 0, 1) := dk_3 (dk_at dksX2_payoff_2 13 rfl rfl)
theorem dX2_payoff_62 : decode cX2_payoff 62 = .ok (.invokevirtual 192, 3) := dk_182 0 192 (dk_at dksX2_payoff_2 14 rfl rfl)
theorem dX2_payoff_65 : decode cX2_payoff 65 = .ok (.iload_n 3, 1) := dk_29 (dk_at dksX2_payoff_2 17 rfl rfl)
theorem dX2_payoff_66 : decode cX2_payoff 66 = .ok (.if_icmp .le 6, 3) := dk_164 0 6 (dk_at dksX2_payoff_2 18 rfl rfl)
theorem dX2_payoff_69 : decode cX2_payoff 69 = .ok (.goto 25, 3) := dk_167 0 25 (dk_at dksX2_payoff_2 21 rfl rfl)
theorem dX2_payoff_72 : decode cX2_payoff 72 = .ok (.iload_n 3, 1) := dk_29 (dk_at dksX2_payoff_3 0 rfl rfl)
theorem dX2_payoff_73 : decode cX2_payoff 73 = .ok (.aload_n 0, 1) := dk_42 (dk_at dksX2_payoff_3 1 rfl rfl)
theorem dX2_payoff_74 : decode cX2_payoff 74 = .ok (.iload 5, 2) := dk_21 5 (dk_at dksX2_payoff_3 2 rfl rfl)
theorem dX2_payoff_76 : decode cX2_payoff 76 = .ok (.iconst 0, 1) := dk_3 (dk_at dksX2_payoff_3 4 rfl rfl)
theorem dX2_payoff_77 : decode cX2_payoff 77 = .ok (.invokevirtual 192, 3) := dk_182 0 192 (dk_at dksX2_payoff_3 5 rfl rfl)
theorem dX2_payoff_80 : decode cX2_payoff 80 = .ok (.isub, 1) := dk_100 (dk_at dksX2_payoff_3 8 rfl rfl)
theorem dX2_payoff_81 : decode cX2_payoff 81 = .ok (.istore_n 3, 1) := dk_62 (dk_at dksX2_payoff_3 9 rfl rfl)
theorem dX2_payoff_82 : decode cX2_payoff 82 = .ok (.iload 4, 2) := dk_21 4 (dk_at dksX2_payoff_3 10 rfl rfl)
theorem dX2_payoff_84 : decode cX2_payoff 84 = .ok (.aload_n 0, 1) := dk_42 (dk_at dksX2_payoff_3 12 rfl rfl)
theorem dX2_payoff_85 : decode cX2_payoff 85 = .ok (.iload 5, 2) := dk_21 5 (dk_at dksX2_payoff_3 13 rfl rfl)
theorem dX2_payoff_87 : decode cX2_payoff 87 = .ok (.iconst 3, 1) := dk_6 (dk_at dksX2_payoff_3 15 rfl rfl)
theorem dX2_payoff_88 : decode cX2_payoff 88 = .ok (.invokevirtual 192, 3) := dk_182 0 192 (dk_at dksX2_payoff_3 16 rfl rfl)
theorem dX2_payoff_91 : decode cX2_payoff 91 = .ok (.isub, 1) := dk_100 (dk_at dksX2_payoff_3 19 rfl rfl)
theorem dX2_payoff_92 : decode cX2_payoff 92 = .ok (.istore 4, 2) := dk_54 4 (dk_at dksX2_payoff_3 20 rfl rfl)
theorem dX2_payoff_94 : decode cX2_payoff 94 = .ok (.iinc 5 1, 3) := dk_132 5 1 (dk_at dksX2_payoff_4 0 rfl rfl)
theorem dX2_payoff_97 : decode cX2_payoff 97 = .ok (.goto (-64), 3) := dk_167 255 192 (dk_at dksX2_payoff_4 3 rfl rfl)
theorem dX2_payoff_100 : decode cX2_payoff 100 = .ok (.iload 4, 2) := dk_21 4 (dk_at dksX2_payoff_4 6 rfl rfl)
theorem dX2_payoff_102 : decode cX2_payoff 102 = .ok (.ireturn, 1) := dk_172 (dk_at dksX2_payoff_4 8 rfl rfl)
/-- PackingDuel$State.payoff(II)I -/
def zb93 (G : zPg) (C : zO) (args : List Value) (Q : zQ) (Y : zY) (σ : zS) : Prop := ∃ (a0 : Nat) (x1 : Int32) (x2 : Int32), args = [.ref a0, .int x1, .int x2] ∧ (zrc σ (some a0) 1 (fun a4 => zcl C 86 [.ref a4, .int x1] Y σ (zqI (fun v1 s2 => zrc s2 (some a0) 1 (fun a11 => zcl C 83 [.ref a11] Y s2 (zqR (fun v8 s9 => zgR s9 v8 14 0 (fun v15 => zaR s9 5 v15 (1 : Int32) (fun v27 => zaI s9 0 v27 x1 (fun v35 => zgI s9 (some a0) 1 4 (fun v37 => ((v37 ≤ v1) → ∃ n, zIt (fun _ _ _ _ => False) (fun rec48 (p44 : Int32) (p45 : Int32) (p46 : Int32) (s47 : zS) => zgR s47 (some a0) 1 0 (fun v49 => zrc s47 v49 2 (fun a58 => zcl C 128 [.ref a58] Y s47 (zqI (fun v55 s56 => ((v55 ≤ p46) → Q (some (.int p45)) s56) ∧ ((¬ v55 ≤ p46) → zcl C 31 [.int (x2 &&& (x1 ^^^ (-1 : Int32))), .int p46] Y s56 (zqI (fun v63 s64 => zJ (fun (p66 : Int32) (p67 : Int32) (s68 : zS) => (∀ v70 : Int32, v70 = p46 + (1 : Int32) → rec48 p66 p67 v70 s68)) (fun (j69 : Int32 → Int32 → zS → Prop) => ((v63 = 0) → j69 p44 p45 s64) ∧ ((¬ v63 = 0) → zrc s64 (some a0) 1 (fun a76 => zcl C 94 [.ref a76, .int p46, .int (0 : Int32)] Y s64 (zqI (fun v73 s74 => ((v73 ≤ p44) → zrc s74 (some a0) 1 (fun a84 => zcl C 94 [.ref a84, .int p46, .int (0 : Int32)] Y s74 (zqI (fun v81 s82 => zrc s82 (some a0) 1 (fun a91 => zcl C 94 [.ref a91, .int p46, .int (3 : Int32)] Y s82 (zqI (fun v88 s89 => j69 (p44 - v81) (p45 - v88) s89))))))) ∧ ((¬ v73 ≤ p44) → j69 p44 p45 s74)))))))))))))) n v1 v35 (0 : Int32) s9) ∧ ((¬ v37 ≤ v1) → Q (some (.int v35)) s9))))))))))))
set_option maxHeartbeats 4000000 in
theorem wk93 {l : Launch} {g : zG} {d : Nat} {C : zO} (hG : zGk g) (hC : zSound l g d C) {args : List Value} {Q : zQ} {Y : zY} {σ : zS} (hw : zb93 (zpg g) C args Q Y σ) : zMet l g (d + 1) (⟨"PackingDuel$State", "payoff", "(II)I"⟩, Cond.code ⟨"PackingDuel$State", "payoff", "(II)I"⟩ prog_20_method_20_code 6 (Option.some FieldType.int)) args σ Q Y := by
  obtain ⟨a0, x1, x2, rfl, hw⟩ := hw
  refine zof hG (by decide +kernel) [false, false, false] ⟨rfl, rfl, rfl, trivial⟩ (Nat.le_of_ble_eq_true rfl) (ls := [some (va_rf (some a0)), some (.int x1), some (.int x2), none, none, none]) rfl ?_
  intro X hX hR hTb hd1 hd2 hl hg hnm
  subst hl
  subst hg
  have hd : zDep X d := ⟨hd1, hd2⟩
  refine z_aload_n hX dX2_payoff_0 rfl (i := 0) rfl ?_
  refine z_iload_n hX dX2_payoff_1 rfl (i := 1) rfl ?_
  obtain ⟨a4, f5, r6, m7, hw⟩ := hw
  refine z_invV hX hd r6 (ci := 1) rfl rfl m7 dX2_payoff_2 (hC 86 _ zm86 _ _ _ _ hw) q411 q412 q413 zh2 q414 q131 zn86 rfl (Nat.le_of_ble_eq_true rfl) (st := []) rfl (zcs8 (Nat.le_of_ble_eq_true rfl)) rfl (zkI (fun v1 s2 hw => ?_)) (zout hX hR hTb)
  refine z_istore_n hX dX2_payoff_5 rfl (i := 3) (Nat.le_of_ble_eq_true rfl) rfl (ls2 := [some (va_rf (some a0)), some (.int x1), some (.int x2), some (.int v1), none, none]) rfl ?_
  refine z_aload_n hX dX2_payoff_6 rfl (i := 0) rfl ?_
  obtain ⟨a11, f12, r13, m14, hw⟩ := hw
  refine z_invV hX hd r13 (ci := 1) rfl rfl m14 dX2_payoff_7 (hC 83 _ zm83 _ _ _ _ hw) q351 q352 q353 zh2 q354 q131 zn83 rfl (Nat.le_of_ble_eq_true rfl) (st := []) rfl (zcs8 (Nat.le_of_ble_eq_true rfl)) rfl (zkR (fun v8 s9 hw => ?_)) (zout hX hR hTb)
  obtain ⟨a16, f17, v15, r18, m19, e20, hw⟩ := hw
  refine z_get hX zc14 (k := 0) dX2_payoff_10 (Nat.le_of_ble_eq_true rfl) (zlkN hX "PackingDuel" q389) r18 m19 e20 ?_
  refine z_iconst hX (v := (1 : Int32)) dX2_payoff_13 (by decide) ?_
  obtain ⟨a21, n22, f23, r24, m25, i26, hw⟩ := hw
  refine z_aald hX 5 dX2_payoff_14 rfl r24 m25 i26 ?_
  revert hw
  generalize f23 (Int32.toNatClampNeg (1 : Int32)) = v27
  intro hw
  refine z_iload_n hX dX2_payoff_15 rfl (i := 1) rfl ?_
  obtain ⟨a29, n30, f31, r32, m33, i34, hw⟩ := hw
  refine z_iald hX dX2_payoff_16 r32 m33 i34 ?_
  revert hw
  generalize f31 (Int32.toNatClampNeg x1) = v35
  intro hw
  refine z_istore hX dX2_payoff_17 (i := 4) (Nat.le_of_ble_eq_true rfl) rfl (ls2 := [some (va_rf (some a0)), some (.int x1), some (.int x2), some (.int v1), some (.int v35), none]) rfl ?_
  refine z_iload_n hX dX2_payoff_19 rfl (i := 3) rfl ?_
  refine z_aload_n hX dX2_payoff_20 rfl (i := 0) rfl ?_
  obtain ⟨a38, f39, v37, r40, m41, e42, hw⟩ := hw
  refine z_get hX zc1 (k := 4) dX2_payoff_21 (Nat.le_of_ble_eq_true rfl) (zlk hX q238) r40 m41 e42 ?_
  refine z_icmp_ge hX dX2_payoff_24 (tgt := 30) rfl (fun c43 => ?_) (fun c43 => ?_)
  · have hw := hw.1 c43
    refine z_iconst hX (v := (0 : Int32)) dX2_payoff_30 (by decide) ?_
    refine z_istore hX dX2_payoff_31 (i := 5) (Nat.le_of_ble_eq_true rfl) rfl (ls2 := [some (va_rf (some a0)), some (.int x1), some (.int x2), some (.int v1), some (.int v35), some (.int (0 : Int32))]) rfl ?_
    obtain ⟨n95, hw⟩ := hw
    refine zIt_w (P := fun (j : Int32 → Int32 → Int32 → zS → Prop) => ∀ (p44 : Int32) (p45 : Int32) (p46 : Int32) (s47 : zS), j p44 p45 p46 s47 → zW X s47 33 [some (va_rf (some a0)), some (.int x1), some (.int x2), some (.int p44), some (.int p45), some (.int p46)] []) (fun _ _ _ _ h => h.elim) (fun rec48 hrec48 p44 p45 p46 s47 hw => ?_) n95 _ _ _ _ hw
    refine z_iload hX dX2_payoff_33 (i := 5) rfl ?_
    refine z_aload_n hX dX2_payoff_35 rfl (i := 0) rfl ?_
    obtain ⟨a50, f51, v49, r52, m53, e54, hw⟩ := hw
    refine z_get hX zc1 (k := 0) dX2_payoff_36 (Nat.le_of_ble_eq_true rfl) (zlk hX q225) r52 m53 e54 ?_
    obtain ⟨a58, f59, r60, m61, hw⟩ := hw
    refine z_invV hX hd r60 (ci := 2) rfl rfl m61 dX2_payoff_39 (hC 128 _ zm128 _ _ _ _ hw) q477 q362 q363 zh5 q364 q134 zn128 rfl (Nat.le_of_ble_eq_true rfl) (st := [.int p46]) rfl (zcs8 (Nat.le_of_ble_eq_true rfl)) rfl (zkI (fun v55 s56 hw => ?_)) (zout hX hR hTb)
    refine z_icmp_ge hX dX2_payoff_42 (tgt := 100) rfl (fun c62 => ?_) (fun c62 => ?_)
    · have hw := hw.1 c62
      refine z_iload hX dX2_payoff_100 (i := 4) rfl ?_
      exact z_ireturn hX hR dX2_payoff_102 rfl hw
    · have hw := hw.2 c62
      refine z_iload_n hX dX2_payoff_45 rfl (i := 2) rfl ?_
      refine z_iload_n hX dX2_payoff_46 rfl (i := 1) rfl ?_
      refine z_iconst hX (v := (-1 : Int32)) dX2_payoff_47 (by decide) ?_
      refine z_ixor hX dX2_payoff_48 ?_
      refine z_iand hX dX2_payoff_49 ?_
      refine z_iload hX dX2_payoff_50 (i := 5) rfl ?_
      refine z_invSN hX hd dX2_payoff_52 (hC 31 _ zm31 _ _ _ _ hw) q522 q523 zh1 q524 q130 zn31 rfl (Nat.le_of_ble_eq_true rfl) (st := []) rfl (zcs8 (Nat.le_of_ble_eq_true rfl)) rfl (zkI (fun v63 s64 hw => ?_)) (zout hX hR hTb)
      refine zJ_w (P := fun (j : Int32 → Int32 → zS → Prop) => ∀ (p66 : Int32) (p67 : Int32) (s68 : zS), j p66 p67 s68 → zW X s68 94 [some (va_rf (some a0)), some (.int x1), some (.int x2), some (.int p66), some (.int p67), some (.int p46)] []) hw (fun p66 p67 s68 hw => ?_) (fun j69 hj69 hw => ?_)
      · obtain ⟨v70, e71⟩ : ∃ y : Int32, y = p46 + (1 : Int32) := ⟨_, rfl⟩
        refine z_iinc hX dX2_payoff_94 (i := 5) (v := v70) rfl (by rw [e71]; rfl) (Nat.le_of_ble_eq_true rfl) rfl (ls2 := [some (va_rf (some a0)), some (.int x1), some (.int x2), some (.int p66), some (.int p67), some (.int v70)]) rfl ?_
        have hw := hw v70 e71
        refine z_goto hX dX2_payoff_97 (tgt := 33) rfl ?_
        exact hrec48 _ _ _ _ hw
      · refine z_if_eq hX dX2_payoff_55 (tgt := 94) rfl (fun c72 => ?_) (fun c72 => ?_)
        · have hw := hw.1 c72
          exact hj69 _ _ _ hw
        · have hw := hw.2 c72
          refine z_aload_n hX dX2_payoff_58 rfl (i := 0) rfl ?_
          refine z_iload hX dX2_payoff_59 (i := 5) rfl ?_
          refine z_iconst hX (v := (0 : Int32)) dX2_payoff_61 (by decide) ?_
          obtain ⟨a76, f77, r78, m79, hw⟩ := hw
          refine z_invV hX hd r78 (ci := 1) rfl rfl m79 dX2_payoff_62 (hC 94 _ zm94 _ _ _ _ hw) q525 q526 q527 zh2 q528 q131 zn94 rfl (Nat.le_of_ble_eq_true rfl) (st := []) rfl (zcs8 (Nat.le_of_ble_eq_true rfl)) rfl (zkI (fun v73 s74 hw => ?_)) (zout hX hR hTb)
          refine z_iload_n hX dX2_payoff_65 rfl (i := 3) rfl ?_
          refine z_icmp_le hX dX2_payoff_66 (tgt := 72) rfl (fun c80 => ?_) (fun c80 => ?_)
          · have hw := hw.1 c80
            refine z_iload_n hX dX2_payoff_72 rfl (i := 3) rfl ?_
            refine z_aload_n hX dX2_payoff_73 rfl (i := 0) rfl ?_
            refine z_iload hX dX2_payoff_74 (i := 5) rfl ?_
            refine z_iconst hX (v := (0 : Int32)) dX2_payoff_76 (by decide) ?_
            obtain ⟨a84, f85, r86, m87, hw⟩ := hw
            refine z_invV hX hd r86 (ci := 1) rfl rfl m87 dX2_payoff_77 (hC 94 _ zm94 _ _ _ _ hw) q525 q526 q527 zh2 q528 q131 zn94 rfl (Nat.le_of_ble_eq_true rfl) (st := [.int p44]) rfl (zcs8 (Nat.le_of_ble_eq_true rfl)) rfl (zkI (fun v81 s82 hw => ?_)) (zout hX hR hTb)
            refine z_isub hX dX2_payoff_80 ?_
            refine z_istore_n hX dX2_payoff_81 rfl (i := 3) (Nat.le_of_ble_eq_true rfl) rfl (ls2 := [some (va_rf (some a0)), some (.int x1), some (.int x2), some (.int (p44 - v81)), some (.int p45), some (.int p46)]) rfl ?_
            refine z_iload hX dX2_payoff_82 (i := 4) rfl ?_
            refine z_aload_n hX dX2_payoff_84 rfl (i := 0) rfl ?_
            refine z_iload hX dX2_payoff_85 (i := 5) rfl ?_
            refine z_iconst hX (v := (3 : Int32)) dX2_payoff_87 (by decide) ?_
            obtain ⟨a91, f92, r93, m94, hw⟩ := hw
            refine z_invV hX hd r93 (ci := 1) rfl rfl m94 dX2_payoff_88 (hC 94 _ zm94 _ _ _ _ hw) q525 q526 q527 zh2 q528 q131 zn94 rfl (Nat.le_of_ble_eq_true rfl) (st := [.int p45]) rfl (zcs8 (Nat.le_of_ble_eq_true rfl)) rfl (zkI (fun v88 s89 hw => ?_)) (zout hX hR hTb)
            refine z_isub hX dX2_payoff_91 ?_
            refine z_istore hX dX2_payoff_92 (i := 4) (Nat.le_of_ble_eq_true rfl) rfl (ls2 := [some (va_rf (some a0)), some (.int x1), some (.int x2), some (.int (p44 - v81)), some (.int (p45 - v88)), some (.int p46)]) rfl ?_
            exact hj69 _ _ _ hw
          · have hw := hw.2 c80
            refine z_goto hX dX2_payoff_69 (tgt := 94) rfl ?_
            exact hj69 _ _ _ hw
  · have hw := hw.2 c43
    refine z_iload hX dX2_payoff_27 (i := 4) rfl ?_
    exact z_ireturn hX hR dX2_payoff_29 rfl hw
abbrev cX2_part : ByteArray := prog_20_method_3_code
def yX2_part : MethodName := ⟨RX2, "part", "(II)I"⟩
def dkwX2_part_0 : List UInt8 := [42, 180, 0, 12, 27, 182, 0, 29, 192, 0, 33, 180, 0, 67, 28, 46, 172]
abbrev dktX2_part_0 : List UInt8 := dkwX2_part_0 ++ []
theorem dksX2_part_0 : cX2_part.data.toList.drop 0 = dktX2_part_0 := by decide +kernel
theorem dX2_part_0 : decode cX2_part 0 = .ok (.aload_n 0, 1) := dk_42 (dk_at dksX2_part_0 0 rfl rfl)
theorem dX2_part_1 : decode cX2_part 1 = .ok (.getfield 12, 3) := dk_180 0 12 (dk_at dksX2_part_0 1 rfl rfl)
theorem dX2_part_4 : decode cX2_part 4 = .ok (.iload_n 1, 1) := dk_27 (dk_at dksX2_part_0 4 rfl rfl)
theorem dX2_part_5 : decode cX2_part 5 = .ok (.invokevirtual 29, 3) := dk_182 0 29 (dk_at dksX2_part_0 5 rfl rfl)
theorem dX2_part_8 : decode cX2_part 8 = .ok (.checkcast 33, 3) := dk_192 0 33 (dk_at dksX2_part_0 8 rfl rfl)
theorem dX2_part_11 : decode cX2_part 11 = .ok (.getfield 67, 3) := dk_180 0 67 (dk_at dksX2_part_0 11 rfl rfl)
theorem dX2_part_14 : decode cX2_part 14 = .ok (.iload_n 2, 1) := dk_28 (dk_at dksX2_part_0 14 rfl rfl)
theorem dX2_part_15 : decode cX2_part 15 = .ok (.iaload, 1) := dk_46 (dk_at dksX2_part_0 15 rfl rfl)
theorem dX2_part_16 : decode cX2_part 16 = .ok (.ireturn, 1) := dk_172 (dk_at dksX2_part_0 16 rfl rfl)
/-- PackingDuel$State.part(II)I -/
def zb94 (G : zPg) (C : zO) (args : List Value) (Q : zQ) (Y : zY) (σ : zS) : Prop := ∃ (a0 : Nat) (x1 : Int32) (x2 : Int32), args = [.ref a0, .int x1, .int x2] ∧ (zgR σ (some a0) 1 0 (fun v1 => zrc σ v1 2 (fun a10 => zcl C 129 [.ref a10, .int x1] Y σ (zqR (fun v7 s8 => (zcst s8 v7 [12] ∧ zgR s8 v7 12 0 (fun v14 => zaI s8 0 v14 x2 (fun v26 => Q (some (.int v26)) s8))))))))
set_option maxHeartbeats 4000000 in
theorem wk94 {l : Launch} {g : zG} {d : Nat} {C : zO} (hG : zGk g) (hC : zSound l g d C) {args : List Value} {Q : zQ} {Y : zY} {σ : zS} (hw : zb94 (zpg g) C args Q Y σ) : zMet l g (d + 1) (⟨"PackingDuel$State", "part", "(II)I"⟩, Cond.code ⟨"PackingDuel$State", "part", "(II)I"⟩ prog_20_method_3_code 3 (Option.some FieldType.int)) args σ Q Y := by
  obtain ⟨a0, x1, x2, rfl, hw⟩ := hw
  refine zof hG (by decide +kernel) [false, false, false] ⟨rfl, rfl, rfl, trivial⟩ (Nat.le_of_ble_eq_true rfl) (ls := [some (va_rf (some a0)), some (.int x1), some (.int x2)]) rfl ?_
  intro X hX hR hTb hd1 hd2 hl hg hnm
  subst hl
  subst hg
  have hd : zDep X d := ⟨hd1, hd2⟩
  refine z_aload_n hX dX2_part_0 rfl (i := 0) rfl ?_
  obtain ⟨a2, f3, v1, r4, m5, e6, hw⟩ := hw
  refine z_get hX zc1 (k := 0) dX2_part_1 (Nat.le_of_ble_eq_true rfl) (zlk hX q225) r4 m5 e6 ?_
  refine z_iload_n hX dX2_part_4 rfl (i := 1) rfl ?_
  obtain ⟨a10, f11, r12, m13, hw⟩ := hw
  refine z_invV hX hd r12 (ci := 2) rfl rfl m13 dX2_part_5 (hC 129 _ zm129 _ _ _ _ hw) q512 q372 q373 zh5 q374 q134 zn129 rfl (Nat.le_of_ble_eq_true rfl) (st := []) rfl (zcs8 (Nat.le_of_ble_eq_true rfl)) rfl (zkR (fun v7 s8 hw => ?_)) (zout hX hR hTb)
  refine z_cast hX dX2_part_8 q529 (zfa1 ⟨_, rfl, Or.inl rfl⟩ (zfa0)) hw.1 ?_
  have hw := hw.2
  obtain ⟨a15, f16, v14, r17, m18, e19, hw⟩ := hw
  refine z_get hX zc12 (k := 0) dX2_part_11 (Nat.le_of_ble_eq_true rfl) (zlkN hX "PackingDuel" q1520) r17 m18 e19 ?_
  refine z_iload_n hX dX2_part_14 rfl (i := 2) rfl ?_
  obtain ⟨a20, n21, f22, r23, m24, i25, hw⟩ := hw
  refine z_iald hX dX2_part_15 r23 m24 i25 ?_
  revert hw
  generalize f22 (Int32.toNatClampNeg x2) = v26
  intro hw
  exact z_ireturn hX hR dX2_part_16 rfl hw
abbrev cX2_goodKernels : ByteArray := prog_20_method_23_code
def yX2_goodKernels : MethodName := ⟨RX2, "goodKernels", "()I"⟩
def dkwX2_goodKernels_0 : List UInt8 := [42, 3, 4, 189, 0, 218, 182, 0, 227, 172]
abbrev dktX2_goodKernels_0 : List UInt8 := dkwX2_goodKernels_0 ++ []
theorem dksX2_goodKernels_0 : cX2_goodKernels.data.toList.drop 0 = dktX2_goodKernels_0 := by decide +kernel
theorem dX2_goodKernels_0 : decode cX2_goodKernels 0 = .ok (.aload_n 0, 1) := dk_42 (dk_at dksX2_goodKernels_0 0 rfl rfl)
theorem dX2_goodKernels_1 : decode cX2_goodKernels 1 = .ok (.iconst 0, 1) := dk_3 (dk_at dksX2_goodKernels_0 1 rfl rfl)
theorem dX2_goodKernels_2 : decode cX2_goodKernels 2 = .ok (.iconst 1, 1) := dk_4 (dk_at dksX2_goodKernels_0 2 rfl rfl)
theorem dX2_goodKernels_3 : decode cX2_goodKernels 3 = .ok (.anewarray 218, 3) := dk_189 0 218 (dk_at dksX2_goodKernels_0 3 rfl rfl)
theorem dX2_goodKernels_6 : decode cX2_goodKernels 6 = .ok (.invokevirtual 227, 3) := dk_182 0 227 (dk_at dksX2_goodKernels_0 6 rfl rfl)
theorem dX2_goodKernels_9 : decode cX2_goodKernels 9 = .ok (.ireturn, 1) := dk_172 (dk_at dksX2_goodKernels_0 9 rfl rfl)
/-- PackingDuel$State.goodKernels()I -/
def zb95 (G : zPg) (C : zO) (args : List Value) (Q : zQ) (Y : zY) (σ : zS) : Prop := ∃ (a0 : Nat), args = [.ref a0] ∧ (znewA σ 6 (1 : Int32) (.inr (.inr (.inr (.inr (fun _ => none))))) (fun s1 => zrc s1 (some a0) 1 (fun a7 => zcl C 91 [.ref a7, .int (0 : Int32), va_rf (some σ.2.1)] Y s1 (zqI (fun v4 s5 => Q (some (.int v4)) s5)))))
set_option maxHeartbeats 4000000 in
theorem wk95 {l : Launch} {g : zG} {d : Nat} {C : zO} (hG : zGk g) (hC : zSound l g d C) {args : List Value} {Q : zQ} {Y : zY} {σ : zS} (hw : zb95 (zpg g) C args Q Y σ) : zMet l g (d + 1) (⟨"PackingDuel$State", "goodKernels", "()I"⟩, Cond.code ⟨"PackingDuel$State", "goodKernels", "()I"⟩ prog_20_method_23_code 1 (Option.some FieldType.int)) args σ Q Y := by
  obtain ⟨a0, rfl, hw⟩ := hw
  refine zof hG (by decide +kernel) [false] ⟨rfl, trivial⟩ (Nat.le_of_ble_eq_true rfl) (ls := [some (va_rf (some a0))]) rfl ?_
  intro X hX hR hTb hd1 hd2 hl hg hnm
  subst hl
  subst hg
  have hd : zDep X d := ⟨hd1, hd2⟩
  refine z_aload_n hX dX2_goodKernels_0 rfl (i := 0) rfl ?_
  refine z_iconst hX (v := (0 : Int32)) dX2_goodKernels_1 (by decide) ?_
  refine z_iconst hX (v := (1 : Int32)) dX2_goodKernels_2 (by decide) ?_
  refine z_anew hX 6 dX2_goodKernels_3 q475 q476 rfl rfl hw.1 hw.2.1 hw.2.2.1 hw.2.2.2.1 (fun z2 => z_nm (fun s1 e3 => ?_))
  have hw := hw.2.2.2.2 z2 s1 e3
  obtain ⟨a7, f8, r9, m10, hw⟩ := hw
  refine z_invV hX hd r9 (ci := 1) rfl rfl m10 dX2_goodKernels_6 (hC 91 _ zm91 _ _ _ _ hw) q481 q483 qs3 zh2 q484 q131 zn91 rfl (Nat.le_of_ble_eq_true rfl) (st := []) rfl (zcs8 (Nat.le_of_ble_eq_true rfl)) rfl (zkI (fun v4 s5 hw => ?_)) (zout hX hR hTb)
  exact z_ireturn hX hR dX2_goodKernels_9 rfl hw
abbrev cX2_outcome : ByteArray := prog_20_method_33_code
def yX2_outcome : MethodName := ⟨RX2, "outcome", "()I"⟩
def dkwX2_outcome_1 : List UInt8 := [172]
abbrev dktX2_outcome_1 : List UInt8 := dkwX2_outcome_1 ++ []
def dkwX2_outcome_0 : List UInt8 := [42, 182, 1, 13, 42, 182, 0, 254, 42, 182, 1, 1, 42, 180, 0, 58, 42, 180, 0, 61, 182, 1, 16, 96]
abbrev dktX2_outcome_0 : List UInt8 := dkwX2_outcome_0 ++ dktX2_outcome_1
theorem dksX2_outcome_0 : cX2_outcome.data.toList.drop 0 = dktX2_outcome_0 := by decide +kernel
theorem dksX2_outcome_1 : cX2_outcome.data.toList.drop 24 = dktX2_outcome_1 := dk_seg dksX2_outcome_0 24 rfl rfl
theorem dX2_outcome_0 : decode cX2_outcome 0 = .ok (.aload_n 0, 1) := dk_42 (dk_at dksX2_outcome_0 0 rfl rfl)
theorem dX2_outcome_1 : decode cX2_outcome 1 = .ok (.invokevirtual 269, 3) := dk_182 1 13 (dk_at dksX2_outcome_0 1 rfl rfl)
theorem dX2_outcome_4 : decode cX2_outcome 4 = .ok (.aload_n 0, 1) := dk_42 (dk_at dksX2_outcome_0 4 rfl rfl)
theorem dX2_outcome_5 : decode cX2_outcome 5 = .ok (.invokevirtual 254, 3) := dk_182 0 254 (dk_at dksX2_outcome_0 5 rfl rfl)
theorem dX2_outcome_8 : decode cX2_outcome 8 = .ok (.aload_n 0, 1) := dk_42 (dk_at dksX2_outcome_0 8 rfl rfl)
theorem dX2_outcome_9 : decode cX2_outcome 9 = .ok (.invokevirtual 257, 3) := dk_182 1 1 (dk_at dksX2_outcome_0 9 rfl rfl)
theorem dX2_outcome_12 : decode cX2_outcome 12 = .ok (.aload_n 0, 1) := dk_42 (dk_at dksX2_outcome_0 12 rfl rfl)
theorem dX2_outcome_13 : decode cX2_outcome 13 = .ok (.getfield 58, 3) := dk_180 0 58 (dk_at dksX2_outcome_0 13 rfl rfl)
theorem dX2_outcome_16 : decode cX2_outcome 16 = .ok (.aload_n 0, 1) := dk_42 (dk_at dksX2_outcome_0 16 rfl rfl)
theorem dX2_outcome_17 : decode cX2_outcome 17 = .ok (.getfield 61, 3) := dk_180 0 61 (dk_at dksX2_outcome_0 17 rfl rfl)
theorem dX2_outcome_20 : decode cX2_outcome 20 = .ok (.invokevirtual 272, 3) := dk_182 1 16 (dk_at dksX2_outcome_0 20 rfl rfl)
theorem dX2_outcome_23 : decode cX2_outcome 23 = .ok (.iadd, 1) := dk_96 (dk_at dksX2_outcome_0 23 rfl rfl)
theorem dX2_outcome_24 : decode cX2_outcome 24 = .ok (.ireturn, 1) := dk_172 (dk_at dksX2_outcome_1 0 rfl rfl)
/-- PackingDuel$State.outcome()I -/
def zb96 (G : zPg) (C : zO) (args : List Value) (Q : zQ) (Y : zY) (σ : zS) : Prop := ∃ (a0 : Nat), args = [.ref a0] ∧ (zrc σ (some a0) 1 (fun a4 => zcl C 97 [.ref a4] Y σ (zqI (fun v1 s2 => zrc s2 (some a0) 1 (fun a11 => zcl C 98 [.ref a11] Y s2 (zqR (fun v8 s9 => zrc s9 (some a0) 1 (fun a18 => zcl C 99 [.ref a18] Y s9 (zqI (fun v15 s16 => zgI s16 (some a0) 1 8 (fun v22 => zgI s16 (some a0) 1 9 (fun v28 => zrc s16 v8 25 (fun a37 => zcl C 505 [.ref a37, .int v15, .int v22, .int v28] Y s16 (zqI (fun v34 s35 => Q (some (.int (v1 + v34))) s35)))))))))))))))
set_option maxHeartbeats 4000000 in
theorem wk96 {l : Launch} {g : zG} {d : Nat} {C : zO} (hG : zGk g) (hC : zSound l g d C) {args : List Value} {Q : zQ} {Y : zY} {σ : zS} (hw : zb96 (zpg g) C args Q Y σ) : zMet l g (d + 1) (⟨"PackingDuel$State", "outcome", "()I"⟩, Cond.code ⟨"PackingDuel$State", "outcome", "()I"⟩ prog_20_method_33_code 1 (Option.some FieldType.int)) args σ Q Y := by
  obtain ⟨a0, rfl, hw⟩ := hw
  refine zof hG (by decide +kernel) [false] ⟨rfl, trivial⟩ (Nat.le_of_ble_eq_true rfl) (ls := [some (va_rf (some a0))]) rfl ?_
  intro X hX hR hTb hd1 hd2 hl hg hnm
  subst hl
  subst hg
  have hd : zDep X d := ⟨hd1, hd2⟩
  refine z_aload_n hX dX2_outcome_0 rfl (i := 0) rfl ?_
  obtain ⟨a4, f5, r6, m7, hw⟩ := hw
  refine z_invV hX hd r6 (ci := 1) rfl rfl m7 dX2_outcome_1 (hC 97 _ zm97 _ _ _ _ hw) q645 q646 q647 zh2 q648 q131 zn97 rfl (Nat.le_of_ble_eq_true rfl) (st := []) rfl (zcs8 (Nat.le_of_ble_eq_true rfl)) rfl (zkI (fun v1 s2 hw => ?_)) (zout hX hR hTb)
  refine z_aload_n hX dX2_outcome_4 rfl (i := 0) rfl ?_
  obtain ⟨a11, f12, r13, m14, hw⟩ := hw
  refine z_invV hX hd r13 (ci := 1) rfl rfl m14 dX2_outcome_5 (hC 98 _ zm98 _ _ _ _ hw) q649 q650 q651 zh2 q652 q131 zn98 rfl (Nat.le_of_ble_eq_true rfl) (st := [.int v1]) rfl (zcs8 (Nat.le_of_ble_eq_true rfl)) rfl (zkR (fun v8 s9 hw => ?_)) (zout hX hR hTb)
  refine z_aload_n hX dX2_outcome_8 rfl (i := 0) rfl ?_
  obtain ⟨a18, f19, r20, m21, hw⟩ := hw
  refine z_invV hX hd r20 (ci := 1) rfl rfl m21 dX2_outcome_9 (hC 99 _ zm99 _ _ _ _ hw) q672 q673 q674 zh2 q675 q131 zn99 rfl (Nat.le_of_ble_eq_true rfl) (st := [va_rf v8, .int v1]) rfl (zcs8 (Nat.le_of_ble_eq_true rfl)) rfl (zkI (fun v15 s16 hw => ?_)) (zout hX hR hTb)
  refine z_aload_n hX dX2_outcome_12 rfl (i := 0) rfl ?_
  obtain ⟨a23, f24, v22, r25, m26, e27, hw⟩ := hw
  refine z_get hX zc1 (k := 8) dX2_outcome_13 (Nat.le_of_ble_eq_true rfl) (zlk hX q248) r25 m26 e27 ?_
  refine z_aload_n hX dX2_outcome_16 rfl (i := 0) rfl ?_
  obtain ⟨a29, f30, v28, r31, m32, e33, hw⟩ := hw
  refine z_get hX zc1 (k := 9) dX2_outcome_17 (Nat.le_of_ble_eq_true rfl) (zlk hX q250) r31 m32 e33 ?_
  obtain ⟨a37, f38, r39, m40, hw⟩ := hw
  refine z_invV hX hd r39 (ci := 25) rfl rfl m40 dX2_outcome_20 (hC 505 _ zm505 _ _ _ _ hw) q676 q677 q678 zh46 q679 q179 zn505 rfl (Nat.le_of_ble_eq_true rfl) (st := [.int v1]) rfl (zcs8 (Nat.le_of_ble_eq_true rfl)) rfl (zkI (fun v34 s35 hw => ?_)) (zout hX hR hTb)
  refine z_iadd hX dX2_outcome_23 ?_
  exact z_ireturn hX hR dX2_outcome_24 rfl hw
abbrev cX2_score : ByteArray := prog_20_method_31_code
def yX2_score : MethodName := ⟨RX2, "score", "()I"⟩
def dkwX2_score_1 : List UInt8 := [180, 0, 55, 46, 100, 172]
abbrev dktX2_score_1 : List UInt8 := dkwX2_score_1 ++ []
def dkwX2_score_0 : List UInt8 := [42, 182, 0, 80, 180, 0, 122, 4, 50, 42, 180, 0, 52, 46, 42, 182, 0, 80, 180, 0, 122, 6, 50, 42]
abbrev dktX2_score_0 : List UInt8 := dkwX2_score_0 ++ dktX2_score_1
theorem dksX2_score_0 : cX2_score.data.toList.drop 0 = dktX2_score_0 := by decide +kernel
theorem dksX2_score_1 : cX2_score.data.toList.drop 24 = dktX2_score_1 := dk_seg dksX2_score_0 24 rfl rfl
theorem dX2_score_0 : decode cX2_score 0 = .ok (.aload_n 0, 1) := dk_42 (dk_at dksX2_score_0 0 rfl rfl)
theorem dX2_score_1 : decode cX2_score 1 = .ok (.invokevirtual 80, 3) := dk_182 0 80 (dk_at dksX2_score_0 1 rfl rfl)
theorem dX2_score_4 : decode cX2_score 4 = .ok (.getfield 122, 3) := dk_180 0 122 (dk_at dksX2_score_0 4 rfl rfl)
theorem dX2_score_7 : decode cX2_score 7 = .ok (.iconst 1, 1) := dk_4 (dk_at dksX2_score_0 7 rfl rfl)
theorem dX2_score_8 : decode cX2_score 8 = .ok (.aaload, 1) := dk_50 (dk_at dksX2_score_0 8 rfl rfl)
theorem dX2_score_9 : decode cX2_score 9 = .ok (.aload_n 0, 1) := dk_42 (dk_at dksX2_score_0 9 rfl rfl)
theorem dX2_score_10 : decode cX2_score 10 = .ok (.getfield 52, 3) := dk_180 0 52 (dk_at dksX2_score_0 10 rfl rfl)
theorem dX2_score_13 : decode cX2_score 13 = .ok (.iaload, 1) := dk_46 (dk_at dksX2_score_0 13 rfl rfl)
theorem dX2_score_14 : decode cX2_score 14 = .ok (.aload_n 0, 1) := dk_42 (dk_at dksX2_score_0 14 rfl rfl)
theorem dX2_score_15 : decode cX2_score 15 = .ok (.invokevirtual 80, 3) := dk_182 0 80 (dk_at dksX2_score_0 15 rfl rfl)
theorem dX2_score_18 : decode cX2_score 18 = .ok (.getfield 122, 3) := dk_180 0 122 (dk_at dksX2_score_0 18 rfl rfl)
theorem dX2_score_21 : decode cX2_score 21 = .ok (.iconst 3, 1) := dk_6 (dk_at dksX2_score_0 21 rfl rfl)
theorem dX2_score_22 : decode cX2_score 22 = .ok (.aaload, 1) := dk_50 (dk_at dksX2_score_0 22 rfl rfl)
theorem dX2_score_23 : decode cX2_score 23 = .ok (.aload_n 0, 1) := dk_42 (dk_at dksX2_score_0 23 rfl rfl)
theorem dX2_score_24 : decode cX2_score 24 = .ok (.getfield 55, 3) := dk_180 0 55 (dk_at dksX2_score_1 0 rfl rfl)
theorem dX2_score_27 : decode cX2_score 27 = .ok (.iaload, 1) := dk_46 (dk_at dksX2_score_1 3 rfl rfl)
theorem dX2_score_28 : decode cX2_score 28 = .ok (.isub, 1) := dk_100 (dk_at dksX2_score_1 4 rfl rfl)
theorem dX2_score_29 : decode cX2_score 29 = .ok (.ireturn, 1) := dk_172 (dk_at dksX2_score_1 5 rfl rfl)
/-- PackingDuel$State.score()I -/
def zb97 (G : zPg) (C : zO) (args : List Value) (Q : zQ) (Y : zY) (σ : zS) : Prop := ∃ (a0 : Nat), args = [.ref a0] ∧ (zrc σ (some a0) 1 (fun a4 => zcl C 83 [.ref a4] Y σ (zqR (fun v1 s2 => zgR s2 v1 14 0 (fun v8 => zaR s2 5 v8 (1 : Int32) (fun v20 => zgI s2 (some a0) 1 6 (fun v22 => zaI s2 0 v20 v22 (fun v34 => zrc s2 (some a0) 1 (fun a39 => zcl C 83 [.ref a39] Y s2 (zqR (fun v36 s37 => zgR s37 v36 14 0 (fun v43 => zaR s37 5 v43 (3 : Int32) (fun v55 => zgI s37 (some a0) 1 7 (fun v57 => zaI s37 0 v55 v57 (fun v69 => Q (some (.int (v34 - v69))) s37)))))))))))))))
set_option maxHeartbeats 4000000 in
theorem wk97 {l : Launch} {g : zG} {d : Nat} {C : zO} (hG : zGk g) (hC : zSound l g d C) {args : List Value} {Q : zQ} {Y : zY} {σ : zS} (hw : zb97 (zpg g) C args Q Y σ) : zMet l g (d + 1) (⟨"PackingDuel$State", "score", "()I"⟩, Cond.code ⟨"PackingDuel$State", "score", "()I"⟩ prog_20_method_31_code 1 (Option.some FieldType.int)) args σ Q Y := by
  obtain ⟨a0, rfl, hw⟩ := hw
  refine zof hG (by decide +kernel) [false] ⟨rfl, trivial⟩ (Nat.le_of_ble_eq_true rfl) (ls := [some (va_rf (some a0))]) rfl ?_
  intro X hX hR hTb hd1 hd2 hl hg hnm
  subst hl
  subst hg
  have hd : zDep X d := ⟨hd1, hd2⟩
  refine z_aload_n hX dX2_score_0 rfl (i := 0) rfl ?_
  obtain ⟨a4, f5, r6, m7, hw⟩ := hw
  refine z_invV hX hd r6 (ci := 1) rfl rfl m7 dX2_score_1 (hC 83 _ zm83 _ _ _ _ hw) q351 q352 q353 zh2 q354 q131 zn83 rfl (Nat.le_of_ble_eq_true rfl) (st := []) rfl (zcs8 (Nat.le_of_ble_eq_true rfl)) rfl (zkR (fun v1 s2 hw => ?_)) (zout hX hR hTb)
  obtain ⟨a9, f10, v8, r11, m12, e13, hw⟩ := hw
  refine z_get hX zc14 (k := 0) dX2_score_4 (Nat.le_of_ble_eq_true rfl) (zlkN hX "PackingDuel" q389) r11 m12 e13 ?_
  refine z_iconst hX (v := (1 : Int32)) dX2_score_7 (by decide) ?_
  obtain ⟨a14, n15, f16, r17, m18, i19, hw⟩ := hw
  refine z_aald hX 5 dX2_score_8 rfl r17 m18 i19 ?_
  revert hw
  generalize f16 (Int32.toNatClampNeg (1 : Int32)) = v20
  intro hw
  refine z_aload_n hX dX2_score_9 rfl (i := 0) rfl ?_
  obtain ⟨a23, f24, v22, r25, m26, e27, hw⟩ := hw
  refine z_get hX zc1 (k := 6) dX2_score_10 (Nat.le_of_ble_eq_true rfl) (zlk hX q244) r25 m26 e27 ?_
  obtain ⟨a28, n29, f30, r31, m32, i33, hw⟩ := hw
  refine z_iald hX dX2_score_13 r31 m32 i33 ?_
  revert hw
  generalize f30 (Int32.toNatClampNeg v22) = v34
  intro hw
  refine z_aload_n hX dX2_score_14 rfl (i := 0) rfl ?_
  obtain ⟨a39, f40, r41, m42, hw⟩ := hw
  refine z_invV hX hd r41 (ci := 1) rfl rfl m42 dX2_score_15 (hC 83 _ zm83 _ _ _ _ hw) q351 q352 q353 zh2 q354 q131 zn83 rfl (Nat.le_of_ble_eq_true rfl) (st := [.int v34]) rfl (zcs8 (Nat.le_of_ble_eq_true rfl)) rfl (zkR (fun v36 s37 hw => ?_)) (zout hX hR hTb)
  obtain ⟨a44, f45, v43, r46, m47, e48, hw⟩ := hw
  refine z_get hX zc14 (k := 0) dX2_score_18 (Nat.le_of_ble_eq_true rfl) (zlkN hX "PackingDuel" q389) r46 m47 e48 ?_
  refine z_iconst hX (v := (3 : Int32)) dX2_score_21 (by decide) ?_
  obtain ⟨a49, n50, f51, r52, m53, i54, hw⟩ := hw
  refine z_aald hX 5 dX2_score_22 rfl r52 m53 i54 ?_
  revert hw
  generalize f51 (Int32.toNatClampNeg (3 : Int32)) = v55
  intro hw
  refine z_aload_n hX dX2_score_23 rfl (i := 0) rfl ?_
  obtain ⟨a58, f59, v57, r60, m61, e62, hw⟩ := hw
  refine z_get hX zc1 (k := 7) dX2_score_24 (Nat.le_of_ble_eq_true rfl) (zlk hX q246) r60 m61 e62 ?_
  obtain ⟨a63, n64, f65, r66, m67, i68, hw⟩ := hw
  refine z_iald hX dX2_score_27 r66 m67 i68 ?_
  revert hw
  generalize f65 (Int32.toNatClampNeg v57) = v69
  intro hw
  refine z_isub hX dX2_score_28 ?_
  exact z_ireturn hX hR dX2_score_29 rfl hw
abbrev cX2_outlook : ByteArray := prog_20_method_28_code
def yX2_outlook : MethodName := ⟨RX2, "outlook", "()LPackingDuel$Outlook;"⟩
def dkwX2_outlook_0 : List UInt8 := [42, 180, 0, 239, 199, 0, 15, 42, 187, 0, 249, 89, 42, 183, 0, 251, 181, 0, 239, 42, 180, 0, 239, 176]
abbrev dktX2_outlook_0 : List UInt8 := dkwX2_outlook_0 ++ []
theorem dksX2_outlook_0 : cX2_outlook.data.toList.drop 0 = dktX2_outlook_0 := by decide +kernel
theorem dX2_outlook_0 : decode cX2_outlook 0 = .ok (.aload_n 0, 1) := dk_42 (dk_at dksX2_outlook_0 0 rfl rfl)
theorem dX2_outlook_1 : decode cX2_outlook 1 = .ok (.getfield 239, 3) := dk_180 0 239 (dk_at dksX2_outlook_0 1 rfl rfl)
theorem dX2_outlook_4 : decode cX2_outlook 4 = .ok (.ifnonnull 15, 3) := dk_199 0 15 (dk_at dksX2_outlook_0 4 rfl rfl)
theorem dX2_outlook_7 : decode cX2_outlook 7 = .ok (.aload_n 0, 1) := dk_42 (dk_at dksX2_outlook_0 7 rfl rfl)
theorem dX2_outlook_8 : decode cX2_outlook 8 = .ok (.new 249, 3) := dk_187 0 249 (dk_at dksX2_outlook_0 8 rfl rfl)
theorem dX2_outlook_11 : decode cX2_outlook 11 = .ok (.dup, 1) := dk_89 (dk_at dksX2_outlook_0 11 rfl rfl)
theorem dX2_outlook_12 : decode cX2_outlook 12 = .ok (.aload_n 0, 1) := dk_42 (dk_at dksX2_outlook_0 12 rfl rfl)
theorem dX2_outlook_13 : decode cX2_outlook 13 = .ok (.invokespecial 251, 3) := dk_183 0 251 (dk_at dksX2_outlook_0 13 rfl rfl)
theorem dX2_outlook_16 : decode cX2_outlook 16 = .ok (.putfield 239, 3) := dk_181 0 239 (dk_at dksX2_outlook_0 16 rfl rfl)
theorem dX2_outlook_19 : decode cX2_outlook 19 = .ok (.aload_n 0, 1) := dk_42 (dk_at dksX2_outlook_0 19 rfl rfl)
theorem dX2_outlook_20 : decode cX2_outlook 20 = .ok (.getfield 239, 3) := dk_180 0 239 (dk_at dksX2_outlook_0 20 rfl rfl)
theorem dX2_outlook_23 : decode cX2_outlook 23 = .ok (.areturn, 1) := dk_176 (dk_at dksX2_outlook_0 23 rfl rfl)
/-- PackingDuel$State.outlook()LPackingDuel$Outlook; -/
def zb98 (G : zPg) (C : zO) (args : List Value) (Q : zQ) (Y : zY) (σ : zS) : Prop := ∃ (a0 : Nat), args = [.ref a0] ∧ (zgR σ (some a0) 1 13 (fun v1 => zJ (fun  (s7 : zS) => zgR s7 (some a0) 1 13 (fun v9 => Q (some (va_rf v9)) s7)) (fun (j8 : zS → Prop) => ((¬ v1 = none) → j8 σ) ∧ ((v1 = none) → znew σ 25 [va_rf none, va_rf none, va_rf none] 3 (fun s16 => (∃ a22, (some σ.2.1) = some a22 ∧ zcl C 504 [.ref a22, va_rf (some a0)] Y s16 (zqV (fun s20 => zput s20 G.1 (some a0) 1 13 (va_rf (some σ.2.1)) (fun s24 => j8 s24)))))))))
set_option maxHeartbeats 4000000 in
theorem wk98 {l : Launch} {g : zG} {d : Nat} {C : zO} (hG : zGk g) (hC : zSound l g d C) {args : List Value} {Q : zQ} {Y : zY} {σ : zS} (hw : zb98 (zpg g) C args Q Y σ) : zMet l g (d + 1) (⟨"PackingDuel$State", "outlook", "()LPackingDuel$Outlook;"⟩, Cond.code ⟨"PackingDuel$State", "outlook", "()LPackingDuel$Outlook;"⟩ prog_20_method_28_code 1 (Option.some (FieldType.object "PackingDuel$Outlook"))) args σ Q Y := by
  obtain ⟨a0, rfl, hw⟩ := hw
  refine zof hG (by decide +kernel) [false] ⟨rfl, trivial⟩ (Nat.le_of_ble_eq_true rfl) (ls := [some (va_rf (some a0))]) rfl ?_
  intro X hX hR hTb hd1 hd2 hl hg hnm
  subst hl
  subst hg
  have hd : zDep X d := ⟨hd1, hd2⟩
  refine z_aload_n hX dX2_outlook_0 rfl (i := 0) rfl ?_
  obtain ⟨a2, f3, v1, r4, m5, e6, hw⟩ := hw
  refine z_get hX zc1 (k := 13) dX2_outlook_1 (Nat.le_of_ble_eq_true rfl) (zlk hX q255) r4 m5 e6 ?_
  refine zJ_w (P := fun (j : zS → Prop) => ∀  (s7 : zS), j  s7 → zW X s7 19 [some (va_rf (some a0))] []) hw (fun  s7 hw => ?_) (fun j8 hj8 hw => ?_)
  · refine z_aload_n hX dX2_outlook_19 rfl (i := 0) rfl ?_
    obtain ⟨a10, f11, v9, r12, m13, e14, hw⟩ := hw
    refine z_get hX zc1 (k := 13) dX2_outlook_20 (Nat.le_of_ble_eq_true rfl) (zlk hX q255) r12 m13 e14 ?_
    exact z_areturn hX hR dX2_outlook_23 (Or.inl ⟨_, rfl⟩) hw
  · refine z_ifnonnull hX dX2_outlook_4 (tgt := 19) rfl (fun c15 => ?_) (fun c15 => ?_)
    · have hw := hw.1 c15
      exact hj8  _ hw
    · have hw := hw.2 c15
      refine z_aload_n hX dX2_outlook_7 rfl (i := 0) rfl ?_
      refine z_new hX zc25 dX2_outlook_8 q653 q654 q179 (fs := [va_rf none, va_rf none, va_rf none]) (fun j hj => by have hj : j < 3 := hj; exact zdf25 j hj) hw.1 hw.2.1 (fun z17 => z_nm (fun s16 e18 => ?_))
      have hw := hw.2.2 z17 s16 e18
      refine z_dup hX dX2_outlook_11 (zc_rf _) ?_
      refine z_aload_n hX dX2_outlook_12 rfl (i := 0) rfl ?_
      obtain ⟨a22, r23, hw⟩ := hw
      refine z_invI hX hd r23 dX2_outlook_13 (hC 504 _ zm504 _ _ _ _ hw) q655 q656 rfl zh46 q657 q179 zn504 rfl (Nat.le_of_ble_eq_true rfl) (st := [va_rf (some σ.2.1), va_rf (some a0)]) rfl (zcs8 (Nat.le_of_ble_eq_true rfl)) rfl (zkV (fun s20 hw => ?_)) (zout hX hR hTb)
      obtain ⟨a26, f27, r28, g29, m30, l31, hw⟩ := hw
      refine z_put hX zc1 (k := 13) dX2_outlook_16 (Nat.le_of_ble_eq_true rfl) (zlk hX q255) rfl (zn_o _ _) (zf_o _ _) r28 g29 m30 l31 (z_nm (fun s24 e25 => ?_))
      have hw := hw s24 e25
      exact hj8  _ hw
abbrev cX2_used : ByteArray := prog_20_method_29_code
def yX2_used : MethodName := ⟨RX2, "used", "()I"⟩
def dkwX2_used_0 : List UInt8 := [42, 180, 0, 52, 42, 180, 0, 55, 128, 172]
abbrev dktX2_used_0 : List UInt8 := dkwX2_used_0 ++ []
theorem dksX2_used_0 : cX2_used.data.toList.drop 0 = dktX2_used_0 := by decide +kernel
theorem dX2_used_0 : decode cX2_used 0 = .ok (.aload_n 0, 1) := dk_42 (dk_at dksX2_used_0 0 rfl rfl)
theorem dX2_used_1 : decode cX2_used 1 = .ok (.getfield 52, 3) := dk_180 0 52 (dk_at dksX2_used_0 1 rfl rfl)
theorem dX2_used_4 : decode cX2_used 4 = .ok (.aload_n 0, 1) := dk_42 (dk_at dksX2_used_0 4 rfl rfl)
theorem dX2_used_5 : decode cX2_used 5 = .ok (.getfield 55, 3) := dk_180 0 55 (dk_at dksX2_used_0 5 rfl rfl)
theorem dX2_used_8 : decode cX2_used 8 = .ok (.ior, 1) := dk_128 (dk_at dksX2_used_0 8 rfl rfl)
theorem dX2_used_9 : decode cX2_used 9 = .ok (.ireturn, 1) := dk_172 (dk_at dksX2_used_0 9 rfl rfl)
/-- PackingDuel$State.used()I -/
def zb99 (G : zPg) (C : zO) (args : List Value) (Q : zQ) (Y : zY) (σ : zS) : Prop := ∃ (a0 : Nat), args = [.ref a0] ∧ (zgI σ (some a0) 1 6 (fun v1 => zgI σ (some a0) 1 7 (fun v7 => Q (some (.int (v1 ||| v7))) σ)))
set_option maxHeartbeats 4000000 in
theorem wk99 {l : Launch} {g : zG} {d : Nat} {C : zO} (hG : zGk g) (hC : zSound l g d C) {args : List Value} {Q : zQ} {Y : zY} {σ : zS} (hw : zb99 (zpg g) C args Q Y σ) : zMet l g (d + 1) (⟨"PackingDuel$State", "used", "()I"⟩, Cond.code ⟨"PackingDuel$State", "used", "()I"⟩ prog_20_method_29_code 1 (Option.some FieldType.int)) args σ Q Y := by
  obtain ⟨a0, rfl, hw⟩ := hw
  refine zof hG (by decide +kernel) [false] ⟨rfl, trivial⟩ (Nat.le_of_ble_eq_true rfl) (ls := [some (va_rf (some a0))]) rfl ?_
  intro X hX hR hTb hd1 hd2 hl hg hnm
  subst hl
  subst hg
  have hd : zDep X d := ⟨hd1, hd2⟩
  refine z_aload_n hX dX2_used_0 rfl (i := 0) rfl ?_
  obtain ⟨a2, f3, v1, r4, m5, e6, hw⟩ := hw
  refine z_get hX zc1 (k := 6) dX2_used_1 (Nat.le_of_ble_eq_true rfl) (zlk hX q244) r4 m5 e6 ?_
  refine z_aload_n hX dX2_used_4 rfl (i := 0) rfl ?_
  obtain ⟨a8, f9, v7, r10, m11, e12, hw⟩ := hw
  refine z_get hX zc1 (k := 7) dX2_used_5 (Nat.le_of_ble_eq_true rfl) (zlk hX q246) r10 m11 e12 ?_
  refine z_ior hX dX2_used_8 ?_
  exact z_ireturn hX hR dX2_used_9 rfl hw
abbrev cX2_bestMove : ByteArray := prog_20_method_34_code
def yX2_bestMove : MethodName := ⟨RX2, "bestMove", "()I"⟩
def dkwX2_bestMove_1 : List UInt8 := [42, 180, 0, 61, 182, 1, 19, 172]
abbrev dktX2_bestMove_1 : List UInt8 := dkwX2_bestMove_1 ++ []
def dkwX2_bestMove_0 : List UInt8 := [42, 182, 1, 7, 153, 0, 8, 16, 254, 167, 0, 22, 42, 182, 0, 254, 42, 182, 1, 1, 42, 180, 0, 58]
abbrev dktX2_bestMove_0 : List UInt8 := dkwX2_bestMove_0 ++ dktX2_bestMove_1
theorem dksX2_bestMove_0 : cX2_bestMove.data.toList.drop 0 = dktX2_bestMove_0 := by decide +kernel
theorem dksX2_bestMove_1 : cX2_bestMove.data.toList.drop 24 = dktX2_bestMove_1 := dk_seg dksX2_bestMove_0 24 rfl rfl
theorem dX2_bestMove_0 : decode cX2_bestMove 0 = .ok (.aload_n 0, 1) := dk_42 (dk_at dksX2_bestMove_0 0 rfl rfl)
theorem dX2_bestMove_1 : decode cX2_bestMove 1 = .ok (.invokevirtual 263, 3) := dk_182 1 7 (dk_at dksX2_bestMove_0 1 rfl rfl)
theorem dX2_bestMove_4 : decode cX2_bestMove 4 = .ok (.ifCond .eq 8, 3) := dk_153 0 8 (dk_at dksX2_bestMove_0 4 rfl rfl)
theorem dX2_bestMove_7 : decode cX2_bestMove 7 = .ok (.bipush (-2), 2) := dk_16 254 (dk_at dksX2_bestMove_0 7 rfl rfl)
theorem dX2_bestMove_9 : decode cX2_bestMove 9 = .ok (.goto 22, 3) := dk_167 0 22 (dk_at dksX2_bestMove_0 9 rfl rfl)
theorem dX2_bestMove_12 : decode cX2_bestMove 12 = .ok (.aload_n 0, 1) := dk_42 (dk_at dksX2_bestMove_0 12 rfl rfl)
theorem dX2_bestMove_13 : decode cX2_bestMove 13 = .ok (.invokevirtual 254, 3) := dk_182 0 254 (dk_at dksX2_bestMove_0 13 rfl rfl)
theorem dX2_bestMove_16 : decode cX2_bestMove 16 = .ok (.aload_n 0, 1) := dk_42 (dk_at dksX2_bestMove_0 16 rfl rfl)
theorem dX2_bestMove_17 : decode cX2_bestMove 17 = .ok (.invokevirtual 257, 3) := dk_182 1 1 (dk_at dksX2_bestMove_0 17 rfl rfl)
theorem dX2_bestMove_20 : decode cX2_bestMove 20 = .ok (.aload_n 0, 1) := dk_42 (dk_at dksX2_bestMove_0 20 rfl rfl)
theorem dX2_bestMove_21 : decode cX2_bestMove 21 = .ok (.getfield 58, 3) := dk_180 0 58 (dk_at dksX2_bestMove_0 21 rfl rfl)
theorem dX2_bestMove_24 : decode cX2_bestMove 24 = .ok (.aload_n 0, 1) := dk_42 (dk_at dksX2_bestMove_1 0 rfl rfl)
theorem dX2_bestMove_25 : decode cX2_bestMove 25 = .ok (.getfield 61, 3) := dk_180 0 61 (dk_at dksX2_bestMove_1 1 rfl rfl)
theorem dX2_bestMove_28 : decode cX2_bestMove 28 = .ok (.invokevirtual 275, 3) := dk_182 1 19 (dk_at dksX2_bestMove_1 4 rfl rfl)
theorem dX2_bestMove_31 : decode cX2_bestMove 31 = .ok (.ireturn, 1) := dk_172 (dk_at dksX2_bestMove_1 7 rfl rfl)
/-- PackingDuel$State.bestMove()I -/
def zb100 (G : zPg) (C : zO) (args : List Value) (Q : zQ) (Y : zY) (σ : zS) : Prop := ∃ (a0 : Nat), args = [.ref a0] ∧ (zrc σ (some a0) 1 (fun a4 => zcl C 101 [.ref a4] Y σ (zqI (fun v1 s2 => zJ (fun (p8 : Int32) (s9 : zS) => Q (some (.int p8)) s9) (fun (j10 : Int32 → zS → Prop) => ((v1 = 0) → zrc s2 (some a0) 1 (fun a15 => zcl C 98 [.ref a15] Y s2 (zqR (fun v12 s13 => zrc s13 (some a0) 1 (fun a22 => zcl C 99 [.ref a22] Y s13 (zqI (fun v19 s20 => zgI s20 (some a0) 1 8 (fun v26 => zgI s20 (some a0) 1 9 (fun v32 => zrc s20 v12 25 (fun a41 => zcl C 512 [.ref a41, .int v19, .int v26, .int v32] Y s20 (zqI (fun v38 s39 => j10 v38 s39)))))))))))) ∧ ((¬ v1 = 0) → j10 (-2 : Int32) s2))))))
set_option maxHeartbeats 4000000 in
theorem wk100 {l : Launch} {g : zG} {d : Nat} {C : zO} (hG : zGk g) (hC : zSound l g d C) {args : List Value} {Q : zQ} {Y : zY} {σ : zS} (hw : zb100 (zpg g) C args Q Y σ) : zMet l g (d + 1) (⟨"PackingDuel$State", "bestMove", "()I"⟩, Cond.code ⟨"PackingDuel$State", "bestMove", "()I"⟩ prog_20_method_34_code 1 (Option.some FieldType.int)) args σ Q Y := by
  obtain ⟨a0, rfl, hw⟩ := hw
  refine zof hG (by decide +kernel) [false] ⟨rfl, trivial⟩ (Nat.le_of_ble_eq_true rfl) (ls := [some (va_rf (some a0))]) rfl ?_
  intro X hX hR hTb hd1 hd2 hl hg hnm
  subst hl
  subst hg
  have hd : zDep X d := ⟨hd1, hd2⟩
  refine z_aload_n hX dX2_bestMove_0 rfl (i := 0) rfl ?_
  obtain ⟨a4, f5, r6, m7, hw⟩ := hw
  refine z_invV hX hd r6 (ci := 1) rfl rfl m7 dX2_bestMove_1 (hC 101 _ zm101 _ _ _ _ hw) q721 q722 q723 zh2 q724 q131 zn101 rfl (Nat.le_of_ble_eq_true rfl) (st := []) rfl (zcs8 (Nat.le_of_ble_eq_true rfl)) rfl (zkI (fun v1 s2 hw => ?_)) (zout hX hR hTb)
  refine zJ_w (P := fun (j : Int32 → zS → Prop) => ∀ (p8 : Int32) (s9 : zS), j p8 s9 → zW X s9 31 [none] [.int p8]) hw (fun p8 s9 hw => ?_) (fun j10 hj10 hw => ?_)
  · exact z_ireturn hX hR dX2_bestMove_31 rfl hw
  · refine z_if_eq hX dX2_bestMove_4 (tgt := 12) rfl (fun c11 => ?_) (fun c11 => ?_)
    · have hw := hw.1 c11
      refine z_aload_n hX dX2_bestMove_12 rfl (i := 0) rfl ?_
      obtain ⟨a15, f16, r17, m18, hw⟩ := hw
      refine z_invV hX hd r17 (ci := 1) rfl rfl m18 dX2_bestMove_13 (hC 98 _ zm98 _ _ _ _ hw) q649 q650 q651 zh2 q652 q131 zn98 rfl (Nat.le_of_ble_eq_true rfl) (st := []) rfl (zcs8 (Nat.le_of_ble_eq_true rfl)) rfl (zkR (fun v12 s13 hw => ?_)) (zout hX hR hTb)
      refine z_aload_n hX dX2_bestMove_16 rfl (i := 0) rfl ?_
      obtain ⟨a22, f23, r24, m25, hw⟩ := hw
      refine z_invV hX hd r24 (ci := 1) rfl rfl m25 dX2_bestMove_17 (hC 99 _ zm99 _ _ _ _ hw) q672 q673 q674 zh2 q675 q131 zn99 rfl (Nat.le_of_ble_eq_true rfl) (st := [va_rf v12]) rfl (zcs8 (Nat.le_of_ble_eq_true rfl)) rfl (zkI (fun v19 s20 hw => ?_)) (zout hX hR hTb)
      refine z_aload_n hX dX2_bestMove_20 rfl (i := 0) rfl ?_
      obtain ⟨a27, f28, v26, r29, m30, e31, hw⟩ := hw
      refine z_get hX zc1 (k := 8) dX2_bestMove_21 (Nat.le_of_ble_eq_true rfl) (zlk hX q248) r29 m30 e31 ?_
      refine z_aload_n hX dX2_bestMove_24 rfl (i := 0) rfl ?_
      obtain ⟨a33, f34, v32, r35, m36, e37, hw⟩ := hw
      refine z_get hX zc1 (k := 9) dX2_bestMove_25 (Nat.le_of_ble_eq_true rfl) (zlk hX q250) r35 m36 e37 ?_
      obtain ⟨a41, f42, r43, m44, hw⟩ := hw
      refine z_invV hX hd r43 (ci := 25) rfl rfl m44 dX2_bestMove_28 (hC 512 _ zm512 _ _ _ _ hw) q726 q727 q728 zh46 q729 q179 zn512 rfl (Nat.le_of_ble_eq_true rfl) (st := []) rfl (zcs8 (Nat.le_of_ble_eq_true rfl)) rfl (zkI (fun v38 s39 hw => ?_)) (zout hX hR hTb)
      refine z_sub (ls' := [none]) (zsN (zs0)) ?_
      exact hj10 _ _ hw
    · have hw := hw.2 c11
      refine z_bipush hX (v := (-2 : Int32)) dX2_bestMove_7 (by decide) ?_
      refine z_goto hX dX2_bestMove_9 (tgt := 31) rfl ?_
      refine z_sub (ls' := [none]) (zsN (zs0)) ?_
      exact hj10 _ _ hw
abbrev cX2_isOver : ByteArray := prog_20_method_30_code
def yX2_isOver : MethodName := ⟨RX2, "isOver", "()Z"⟩
def dkwX2_isOver_0 : List UInt8 := [42, 182, 0, 254, 42, 182, 1, 1, 42, 180, 0, 61, 182, 1, 4, 172]
abbrev dktX2_isOver_0 : List UInt8 := dkwX2_isOver_0 ++ []
theorem dksX2_isOver_0 : cX2_isOver.data.toList.drop 0 = dktX2_isOver_0 := by decide +kernel
theorem dX2_isOver_0 : decode cX2_isOver 0 = .ok (.aload_n 0, 1) := dk_42 (dk_at dksX2_isOver_0 0 rfl rfl)
theorem dX2_isOver_1 : decode cX2_isOver 1 = .ok (.invokevirtual 254, 3) := dk_182 0 254 (dk_at dksX2_isOver_0 1 rfl rfl)
theorem dX2_isOver_4 : decode cX2_isOver 4 = .ok (.aload_n 0, 1) := dk_42 (dk_at dksX2_isOver_0 4 rfl rfl)
theorem dX2_isOver_5 : decode cX2_isOver 5 = .ok (.invokevirtual 257, 3) := dk_182 1 1 (dk_at dksX2_isOver_0 5 rfl rfl)
theorem dX2_isOver_8 : decode cX2_isOver 8 = .ok (.aload_n 0, 1) := dk_42 (dk_at dksX2_isOver_0 8 rfl rfl)
theorem dX2_isOver_9 : decode cX2_isOver 9 = .ok (.getfield 61, 3) := dk_180 0 61 (dk_at dksX2_isOver_0 9 rfl rfl)
theorem dX2_isOver_12 : decode cX2_isOver 12 = .ok (.invokevirtual 260, 3) := dk_182 1 4 (dk_at dksX2_isOver_0 12 rfl rfl)
theorem dX2_isOver_15 : decode cX2_isOver 15 = .ok (.ireturn, 1) := dk_172 (dk_at dksX2_isOver_0 15 rfl rfl)
/-- PackingDuel$State.isOver()Z -/
def zb101 (G : zPg) (C : zO) (args : List Value) (Q : zQ) (Y : zY) (σ : zS) : Prop := ∃ (a0 : Nat), args = [.ref a0] ∧ (zrc σ (some a0) 1 (fun a4 => zcl C 98 [.ref a4] Y σ (zqR (fun v1 s2 => zrc s2 (some a0) 1 (fun a11 => zcl C 99 [.ref a11] Y s2 (zqI (fun v8 s9 => zgI s9 (some a0) 1 9 (fun v15 => zrc s9 v1 25 (fun a24 => zcl C 506 [.ref a24, .int v8, .int v15] Y s9 (zqI (fun v21 s22 => zbool v21 ∧ Q (some (.int v21)) s22)))))))))))
set_option maxHeartbeats 4000000 in
theorem wk101 {l : Launch} {g : zG} {d : Nat} {C : zO} (hG : zGk g) (hC : zSound l g d C) {args : List Value} {Q : zQ} {Y : zY} {σ : zS} (hw : zb101 (zpg g) C args Q Y σ) : zMet l g (d + 1) (⟨"PackingDuel$State", "isOver", "()Z"⟩, Cond.code ⟨"PackingDuel$State", "isOver", "()Z"⟩ prog_20_method_30_code 1 (Option.some FieldType.boolean)) args σ Q Y := by
  obtain ⟨a0, rfl, hw⟩ := hw
  refine zof hG (by decide +kernel) [false] ⟨rfl, trivial⟩ (Nat.le_of_ble_eq_true rfl) (ls := [some (va_rf (some a0))]) rfl ?_
  intro X hX hR hTb hd1 hd2 hl hg hnm
  subst hl
  subst hg
  have hd : zDep X d := ⟨hd1, hd2⟩
  refine z_aload_n hX dX2_isOver_0 rfl (i := 0) rfl ?_
  obtain ⟨a4, f5, r6, m7, hw⟩ := hw
  refine z_invV hX hd r6 (ci := 1) rfl rfl m7 dX2_isOver_1 (hC 98 _ zm98 _ _ _ _ hw) q649 q650 q651 zh2 q652 q131 zn98 rfl (Nat.le_of_ble_eq_true rfl) (st := []) rfl (zcs8 (Nat.le_of_ble_eq_true rfl)) rfl (zkR (fun v1 s2 hw => ?_)) (zout hX hR hTb)
  refine z_aload_n hX dX2_isOver_4 rfl (i := 0) rfl ?_
  obtain ⟨a11, f12, r13, m14, hw⟩ := hw
  refine z_invV hX hd r13 (ci := 1) rfl rfl m14 dX2_isOver_5 (hC 99 _ zm99 _ _ _ _ hw) q672 q673 q674 zh2 q675 q131 zn99 rfl (Nat.le_of_ble_eq_true rfl) (st := [va_rf v1]) rfl (zcs8 (Nat.le_of_ble_eq_true rfl)) rfl (zkI (fun v8 s9 hw => ?_)) (zout hX hR hTb)
  refine z_aload_n hX dX2_isOver_8 rfl (i := 0) rfl ?_
  obtain ⟨a16, f17, v15, r18, m19, e20, hw⟩ := hw
  refine z_get hX zc1 (k := 9) dX2_isOver_9 (Nat.le_of_ble_eq_true rfl) (zlk hX q250) r18 m19 e20 ?_
  obtain ⟨a24, f25, r26, m27, hw⟩ := hw
  refine z_invV hX hd r26 (ci := 25) rfl rfl m27 dX2_isOver_12 (hC 506 _ zm506 _ _ _ _ hw) q725 q681 q682 zh46 q683 q179 zn506 rfl (Nat.le_of_ble_eq_true rfl) (st := []) rfl (zcs8 (Nat.le_of_ble_eq_true rfl)) rfl (zkI (fun v21 s22 hw => ?_)) (zout hX hR hTb)
  exact z_ireturn hX hR dX2_isOver_15 (zn_z hw.1) hw.2
abbrev cX2_result : ByteArray := prog_20_method_12_code
def yX2_result : MethodName := ⟨RX2, "result", "(I)I"⟩
def dkwX2_result_0 : List UInt8 := [42, 27, 42, 180, 0, 45, 182, 0, 126, 172]
abbrev dktX2_result_0 : List UInt8 := dkwX2_result_0 ++ []
theorem dksX2_result_0 : cX2_result.data.toList.drop 0 = dktX2_result_0 := by decide +kernel
theorem dX2_result_0 : decode cX2_result 0 = .ok (.aload_n 0, 1) := dk_42 (dk_at dksX2_result_0 0 rfl rfl)
theorem dX2_result_1 : decode cX2_result 1 = .ok (.iload_n 1, 1) := dk_27 (dk_at dksX2_result_0 1 rfl rfl)
theorem dX2_result_2 : decode cX2_result 2 = .ok (.aload_n 0, 1) := dk_42 (dk_at dksX2_result_0 2 rfl rfl)
theorem dX2_result_3 : decode cX2_result 3 = .ok (.getfield 45, 3) := dk_180 0 45 (dk_at dksX2_result_0 3 rfl rfl)
theorem dX2_result_6 : decode cX2_result 6 = .ok (.invokevirtual 126, 3) := dk_182 0 126 (dk_at dksX2_result_0 6 rfl rfl)
theorem dX2_result_9 : decode cX2_result 9 = .ok (.ireturn, 1) := dk_172 (dk_at dksX2_result_0 9 rfl rfl)
/-- PackingDuel$State.result(I)I -/
def zb102 (G : zPg) (C : zO) (args : List Value) (Q : zQ) (Y : zY) (σ : zS) : Prop := ∃ (a0 : Nat) (x1 : Int32), args = [.ref a0, .int x1] ∧ (zgI σ (some a0) 1 4 (fun v1 => zrc σ (some a0) 1 (fun a10 => zcl C 85 [.ref a10, .int x1, .int v1] Y σ (zqI (fun v7 s8 => Q (some (.int v7)) s8)))))
set_option maxHeartbeats 4000000 in
theorem wk102 {l : Launch} {g : zG} {d : Nat} {C : zO} (hG : zGk g) (hC : zSound l g d C) {args : List Value} {Q : zQ} {Y : zY} {σ : zS} (hw : zb102 (zpg g) C args Q Y σ) : zMet l g (d + 1) (⟨"PackingDuel$State", "result", "(I)I"⟩, Cond.code ⟨"PackingDuel$State", "result", "(I)I"⟩ prog_20_method_12_code 2 (Option.some FieldType.int)) args σ Q Y := by
  obtain ⟨a0, x1, rfl, hw⟩ := hw
  refine zof hG (by decide +kernel) [false, false] ⟨rfl, rfl, trivial⟩ (Nat.le_of_ble_eq_true rfl) (ls := [some (va_rf (some a0)), some (.int x1)]) rfl ?_
  intro X hX hR hTb hd1 hd2 hl hg hnm
  subst hl
  subst hg
  have hd : zDep X d := ⟨hd1, hd2⟩
  refine z_aload_n hX dX2_result_0 rfl (i := 0) rfl ?_
  refine z_iload_n hX dX2_result_1 rfl (i := 1) rfl ?_
  refine z_aload_n hX dX2_result_2 rfl (i := 0) rfl ?_
  obtain ⟨a2, f3, v1, r4, m5, e6, hw⟩ := hw
  refine z_get hX zc1 (k := 4) dX2_result_3 (Nat.le_of_ble_eq_true rfl) (zlk hX q238) r4 m5 e6 ?_
  obtain ⟨a10, f11, r12, m13, hw⟩ := hw
  refine z_invV hX hd r12 (ci := 1) rfl rfl m13 dX2_result_6 (hC 85 _ zm85 _ _ _ _ hw) q407 q408 q409 zh2 q410 q131 zn85 rfl (Nat.le_of_ble_eq_true rfl) (st := []) rfl (zcs8 (Nat.le_of_ble_eq_true rfl)) rfl (zkI (fun v7 s8 hw => ?_)) (zout hX hR hTb)
  exact z_ireturn hX hR dX2_result_9 rfl hw
abbrev cX2_plansMany : ByteArray := prog_20_method_13_code
def yX2_plansMany : MethodName := ⟨RX2, "plansMany", "()I"⟩
def dkwX2_plansMany_1 : List UInt8 := [96, 60, 132, 2, 1, 167, 255, 231, 27, 172]
abbrev dktX2_plansMany_1 : List UInt8 := dkwX2_plansMany_1 ++ []
def dkwX2_plansMany_0 : List UInt8 := [3, 60, 3, 61, 28, 42, 182, 0, 80, 182, 0, 83, 162, 0, 20, 27, 42, 28, 182, 0, 111, 184, 0, 130]
abbrev dktX2_plansMany_0 : List UInt8 := dkwX2_plansMany_0 ++ dktX2_plansMany_1
theorem dksX2_plansMany_0 : cX2_plansMany.data.toList.drop 0 = dktX2_plansMany_0 := by decide +kernel
theorem dksX2_plansMany_1 : cX2_plansMany.data.toList.drop 24 = dktX2_plansMany_1 := dk_seg dksX2_plansMany_0 24 rfl rfl
theorem dX2_plansMany_0 : decode cX2_plansMany 0 = .ok (.iconst 0, 1) := dk_3 (dk_at dksX2_plansMany_0 0 rfl rfl)
theorem dX2_plansMany_1 : decode cX2_plansMany 1 = .ok (.istore_n 1, 1) := dk_60 (dk_at dksX2_plansMany_0 1 rfl rfl)
theorem dX2_plansMany_2 : decode cX2_plansMany 2 = .ok (.iconst 0, 1) := dk_3 (dk_at dksX2_plansMany_0 2 rfl rfl)
theorem dX2_plansMany_3 : decode cX2_plansMany 3 = .ok (.istore_n 2, 1) := dk_61 (dk_at dksX2_plansMany_0 3 rfl rfl)
theorem dX2_plansMany_4 : decode cX2_plansMany 4 = .ok (.iload_n 2, 1) := dk_28 (dk_at dksX2_plansMany_0 4 rfl rfl)
theorem dX2_plansMany_5 : decode cX2_plansMany 5 = .ok (.aload_n 0, 1) := dk_42 (dk_at dksX2_plansMany_0 5 rfl rfl)
theorem dX2_plansMany_6 : decode cX2_plansMany 6 = .ok (.invokevirtual 80, 3) := dk_182 0 80 (dk_at dksX2_plansMany_0 6 rfl rfl)
theorem dX2_plansMany_9 : decode cX2_plansMany 9 = .ok (.invokevirtual 83, 3) := dk_182 0 83 (dk_at dksX2_plansMany_0 9 rfl rfl)
theorem dX2_plansMany_12 : decode cX2_plansMany 12 = .ok (.if_icmp .ge 20, 3) := dk_162 0 20 (dk_at dksX2_plansMany_0 12 rfl rfl)
theorem dX2_plansMany_15 : decode cX2_plansMany 15 = .ok (.iload_n 1, 1) := dk_27 (dk_at dksX2_plansMany_0 15 rfl rfl)
theorem dX2_plansMany_16 : decode cX2_plansMany 16 = .ok (.aload_n 0, 1) := dk_42 (dk_at dksX2_plansMany_0 16 rfl rfl)
theorem dX2_plansMany_17 : decode cX2_plansMany 17 = .ok (.iload_n 2, 1) := dk_28 (dk_at dksX2_plansMany_0 17 rfl rfl)
theorem dX2_plansMany_18 : decode cX2_plansMany 18 = .ok (.invokevirtual 111, 3) := dk_182 0 111 (dk_at dksX2_plansMany_0 18 rfl rfl)
theorem dX2_plansMany_21 : decode cX2_plansMany 21 = .ok (.invokestatic 130, 3) := dk_184 0 130 (dk_at dksX2_plansMany_0 21 rfl rfl)
theorem dX2_plansMany_24 : decode cX2_plansMany 24 = .ok (.iadd, 1) := dk_96 (dk_at dksX2_plansMany_1 0 rfl rfl)
theorem dX2_plansMany_25 : decode cX2_plansMany 25 = .ok (.istore_n 1, 1) := dk_60 (dk_at dksX2_plansMany_1 1 rfl rfl)
theorem dX2_plansMany_26 : decode cX2_plansMany 26 = .ok (.iinc 2 1, 3) := dk_132 2 1 (dk_at dksX2_plansMany_1 2 rfl rfl)
theorem dX2_plansMany_29 : decode cX2_plansMany 29 = .ok (.goto (-25), 3) := dk_167 255 231 (dk_at dksX2_plansMany_1 5 rfl rfl)
theorem dX2_plansMany_32 : decode cX2_plansMany 32 = .ok (.iload_n 1, 1) := dk_27 (dk_at dksX2_plansMany_1 8 rfl rfl)
theorem dX2_plansMany_33 : decode cX2_plansMany 33 = .ok (.ireturn, 1) := dk_172 (dk_at dksX2_plansMany_1 9 rfl rfl)
/-- PackingDuel$State.plansMany()I -/
def zb103 (G : zPg) (C : zO) (args : List Value) (Q : zQ) (Y : zY) (σ : zS) : Prop := ∃ (a0 : Nat), args = [.ref a0] ∧ (∃ n, zIt (fun _ _ _ => False) (fun rec4 (p1 : Int32) (p2 : Int32) (s3 : zS) => zrc s3 (some a0) 1 (fun a8 => zcl C 83 [.ref a8] Y s3 (zqR (fun v5 s6 => zrc s6 v5 14 (fun a15 => zcl C 452 [.ref a15] Y s6 (zqI (fun v12 s13 => ((v12 ≤ p2) → Q (some (.int p1)) s13) ∧ ((¬ v12 ≤ p2) → zrc s13 (some a0) 1 (fun a23 => zcl C 84 [.ref a23, .int p2] Y s13 (zqI (fun v20 s21 => zcl C 27 [.int v20] Y s21 (zqI (fun v27 s28 => (∀ v30 : Int32, v30 = p2 + (1 : Int32) → rec4 (p1 + v27) v30 s28)))))))))))))) n (0 : Int32) (0 : Int32) σ)
set_option maxHeartbeats 4000000 in
theorem wk103 {l : Launch} {g : zG} {d : Nat} {C : zO} (hG : zGk g) (hC : zSound l g d C) {args : List Value} {Q : zQ} {Y : zY} {σ : zS} (hw : zb103 (zpg g) C args Q Y σ) : zMet l g (d + 1) (⟨"PackingDuel$State", "plansMany", "()I"⟩, Cond.code ⟨"PackingDuel$State", "plansMany", "()I"⟩ prog_20_method_13_code 3 (Option.some FieldType.int)) args σ Q Y := by
  obtain ⟨a0, rfl, hw⟩ := hw
  refine zof hG (by decide +kernel) [false] ⟨rfl, trivial⟩ (Nat.le_of_ble_eq_true rfl) (ls := [some (va_rf (some a0)), none, none]) rfl ?_
  intro X hX hR hTb hd1 hd2 hl hg hnm
  subst hl
  subst hg
  have hd : zDep X d := ⟨hd1, hd2⟩
  refine z_iconst hX (v := (0 : Int32)) dX2_plansMany_0 (by decide) ?_
  refine z_istore_n hX dX2_plansMany_1 rfl (i := 1) (Nat.le_of_ble_eq_true rfl) (zc_rf _) (ls2 := [some (va_rf (some a0)), some (.int (0 : Int32)), none]) rfl ?_
  refine z_iconst hX (v := (0 : Int32)) dX2_plansMany_2 (by decide) ?_
  refine z_istore_n hX dX2_plansMany_3 rfl (i := 2) (Nat.le_of_ble_eq_true rfl) rfl (ls2 := [some (va_rf (some a0)), some (.int (0 : Int32)), some (.int (0 : Int32))]) rfl ?_
  obtain ⟨n32, hw⟩ := hw
  refine zIt_w (P := fun (j : Int32 → Int32 → zS → Prop) => ∀ (p1 : Int32) (p2 : Int32) (s3 : zS), j p1 p2 s3 → zW X s3 4 [some (va_rf (some a0)), some (.int p1), some (.int p2)] []) (fun _ _ _ h => h.elim) (fun rec4 hrec4 p1 p2 s3 hw => ?_) n32 _ _ _ hw
  refine z_iload_n hX dX2_plansMany_4 rfl (i := 2) rfl ?_
  refine z_aload_n hX dX2_plansMany_5 rfl (i := 0) rfl ?_
  obtain ⟨a8, f9, r10, m11, hw⟩ := hw
  refine z_invV hX hd r10 (ci := 1) rfl rfl m11 dX2_plansMany_6 (hC 83 _ zm83 _ _ _ _ hw) q351 q352 q353 zh2 q354 q131 zn83 rfl (Nat.le_of_ble_eq_true rfl) (st := [.int p2]) rfl (zcs8 (Nat.le_of_ble_eq_true rfl)) rfl (zkR (fun v5 s6 hw => ?_)) (zout hX hR hTb)
  obtain ⟨a15, f16, r17, m18, hw⟩ := hw
  refine z_invV hX hd r17 (ci := 14) rfl rfl m18 dX2_plansMany_9 (hC 452 _ zm452 _ _ _ _ hw) q395 q396 q397 zh30 q398 q161 zn452 rfl (Nat.le_of_ble_eq_true rfl) (st := [.int p2]) rfl (zcs8 (Nat.le_of_ble_eq_true rfl)) rfl (zkI (fun v12 s13 hw => ?_)) (zout hX hR hTb)
  refine z_icmp_ge hX dX2_plansMany_12 (tgt := 32) rfl (fun c19 => ?_) (fun c19 => ?_)
  · have hw := hw.1 c19
    refine z_iload_n hX dX2_plansMany_32 rfl (i := 1) rfl ?_
    exact z_ireturn hX hR dX2_plansMany_33 rfl hw
  · have hw := hw.2 c19
    refine z_iload_n hX dX2_plansMany_15 rfl (i := 1) rfl ?_
    refine z_aload_n hX dX2_plansMany_16 rfl (i := 0) rfl ?_
    refine z_iload_n hX dX2_plansMany_17 rfl (i := 2) rfl ?_
    obtain ⟨a23, f24, r25, m26, hw⟩ := hw
    refine z_invV hX hd r25 (ci := 1) rfl rfl m26 dX2_plansMany_18 (hC 84 _ zm84 _ _ _ _ hw) q399 q400 q401 zh2 q402 q131 zn84 rfl (Nat.le_of_ble_eq_true rfl) (st := [.int p1]) rfl (zcs8 (Nat.le_of_ble_eq_true rfl)) rfl (zkI (fun v20 s21 hw => ?_)) (zout hX hR hTb)
    refine z_invSN hX hd dX2_plansMany_21 (hC 27 _ zm27 _ _ _ _ hw) q445 q446 zh1 q447 q130 zn27 rfl (Nat.le_of_ble_eq_true rfl) (st := [.int p1]) rfl (zcs8 (Nat.le_of_ble_eq_true rfl)) rfl (zkI (fun v27 s28 hw => ?_)) (zout hX hR hTb)
    refine z_iadd hX dX2_plansMany_24 ?_
    refine z_istore_n hX dX2_plansMany_25 rfl (i := 1) (Nat.le_of_ble_eq_true rfl) (zc_rf _) (ls2 := [some (va_rf (some a0)), some (.int (p1 + v27)), some (.int p2)]) rfl ?_
    obtain ⟨v30, e31⟩ : ∃ y : Int32, y = p2 + (1 : Int32) := ⟨_, rfl⟩
    refine z_iinc hX dX2_plansMany_26 (i := 2) (v := v30) rfl (by rw [e31]; rfl) (Nat.le_of_ble_eq_true rfl) rfl (ls2 := [some (va_rf (some a0)), some (.int (p1 + v27)), some (.int v30)]) rfl ?_
    have hw := hw v30 e31
    refine z_goto hX dX2_plansMany_29 (tgt := 4) rfl ?_
    exact hrec4 _ _ _ hw
abbrev cX2_reply : ByteArray := prog_20_method_10_code
def yX2_reply : MethodName := ⟨RX2, "reply", "(I)I"⟩
def dkwX2_reply_0 : List UInt8 := [42, 27, 182, 0, 94, 42, 180, 0, 45, 162, 0, 7, 3, 167, 0, 9, 42, 182, 0, 119, 27, 46, 172]
abbrev dktX2_reply_0 : List UInt8 := dkwX2_reply_0 ++ []
theorem dksX2_reply_0 : cX2_reply.data.toList.drop 0 = dktX2_reply_0 := by decide +kernel
theorem dX2_reply_0 : decode cX2_reply 0 = .ok (.aload_n 0, 1) := dk_42 (dk_at dksX2_reply_0 0 rfl rfl)
theorem dX2_reply_1 : decode cX2_reply 1 = .ok (.iload_n 1, 1) := dk_27 (dk_at dksX2_reply_0 1 rfl rfl)
theorem dX2_reply_2 : decode cX2_reply 2 = .ok (.invokevirtual 94, 3) := dk_182 0 94 (dk_at dksX2_reply_0 2 rfl rfl)
theorem dX2_reply_5 : decode cX2_reply 5 = .ok (.aload_n 0, 1) := dk_42 (dk_at dksX2_reply_0 5 rfl rfl)
theorem dX2_reply_6 : decode cX2_reply 6 = .ok (.getfield 45, 3) := dk_180 0 45 (dk_at dksX2_reply_0 6 rfl rfl)
theorem dX2_reply_9 : decode cX2_reply 9 = .ok (.if_icmp .ge 7, 3) := dk_162 0 7 (dk_at dksX2_reply_0 9 rfl rfl)
theorem dX2_reply_12 : decode cX2_reply 12 = .ok (.iconst 0, 1) := dk_3 (dk_at dksX2_reply_0 12 rfl rfl)
theorem dX2_reply_13 : decode cX2_reply 13 = .ok (.goto 9, 3) := dk_167 0 9 (dk_at dksX2_reply_0 13 rfl rfl)
theorem dX2_reply_16 : decode cX2_reply 16 = .ok (.aload_n 0, 1) := dk_42 (dk_at dksX2_reply_0 16 rfl rfl)
theorem dX2_reply_17 : decode cX2_reply 17 = .ok (.invokevirtual 119, 3) := dk_182 0 119 (dk_at dksX2_reply_0 17 rfl rfl)
theorem dX2_reply_20 : decode cX2_reply 20 = .ok (.iload_n 1, 1) := dk_27 (dk_at dksX2_reply_0 20 rfl rfl)
theorem dX2_reply_21 : decode cX2_reply 21 = .ok (.iaload, 1) := dk_46 (dk_at dksX2_reply_0 21 rfl rfl)
theorem dX2_reply_22 : decode cX2_reply 22 = .ok (.ireturn, 1) := dk_172 (dk_at dksX2_reply_0 22 rfl rfl)
/-- PackingDuel$State.reply(I)I -/
def zb104 (G : zPg) (C : zO) (args : List Value) (Q : zQ) (Y : zY) (σ : zS) : Prop := ∃ (a0 : Nat) (x1 : Int32), args = [.ref a0, .int x1] ∧ (zrc σ (some a0) 1 (fun a4 => zcl C 86 [.ref a4, .int x1] Y σ (zqI (fun v1 s2 => zgI s2 (some a0) 1 4 (fun v8 => zJ (fun (p14 : Int32) (s15 : zS) => Q (some (.int p14)) s15) (fun (j16 : Int32 → zS → Prop) => ((v8 ≤ v1) → zrc s2 (some a0) 1 (fun a21 => zcl C 87 [.ref a21] Y s2 (zqR (fun v18 s19 => zaI s19 0 v18 x1 (fun v31 => j16 v31 s19))))) ∧ ((¬ v8 ≤ v1) → j16 (0 : Int32) s2)))))))
set_option maxHeartbeats 4000000 in
theorem wk104 {l : Launch} {g : zG} {d : Nat} {C : zO} (hG : zGk g) (hC : zSound l g d C) {args : List Value} {Q : zQ} {Y : zY} {σ : zS} (hw : zb104 (zpg g) C args Q Y σ) : zMet l g (d + 1) (⟨"PackingDuel$State", "reply", "(I)I"⟩, Cond.code ⟨"PackingDuel$State", "reply", "(I)I"⟩ prog_20_method_10_code 2 (Option.some FieldType.int)) args σ Q Y := by
  obtain ⟨a0, x1, rfl, hw⟩ := hw
  refine zof hG (by decide +kernel) [false, false] ⟨rfl, rfl, trivial⟩ (Nat.le_of_ble_eq_true rfl) (ls := [some (va_rf (some a0)), some (.int x1)]) rfl ?_
  intro X hX hR hTb hd1 hd2 hl hg hnm
  subst hl
  subst hg
  have hd : zDep X d := ⟨hd1, hd2⟩
  refine z_aload_n hX dX2_reply_0 rfl (i := 0) rfl ?_
  refine z_iload_n hX dX2_reply_1 rfl (i := 1) rfl ?_
  obtain ⟨a4, f5, r6, m7, hw⟩ := hw
  refine z_invV hX hd r6 (ci := 1) rfl rfl m7 dX2_reply_2 (hC 86 _ zm86 _ _ _ _ hw) q411 q412 q413 zh2 q414 q131 zn86 rfl (Nat.le_of_ble_eq_true rfl) (st := []) rfl (zcs8 (Nat.le_of_ble_eq_true rfl)) rfl (zkI (fun v1 s2 hw => ?_)) (zout hX hR hTb)
  refine z_aload_n hX dX2_reply_5 rfl (i := 0) rfl ?_
  obtain ⟨a9, f10, v8, r11, m12, e13, hw⟩ := hw
  refine z_get hX zc1 (k := 4) dX2_reply_6 (Nat.le_of_ble_eq_true rfl) (zlk hX q238) r11 m12 e13 ?_
  refine zJ_w (P := fun (j : Int32 → zS → Prop) => ∀ (p14 : Int32) (s15 : zS), j p14 s15 → zW X s15 22 [none, none] [.int p14]) hw (fun p14 s15 hw => ?_) (fun j16 hj16 hw => ?_)
  · exact z_ireturn hX hR dX2_reply_22 rfl hw
  · refine z_icmp_ge hX dX2_reply_9 (tgt := 16) rfl (fun c17 => ?_) (fun c17 => ?_)
    · have hw := hw.1 c17
      refine z_aload_n hX dX2_reply_16 rfl (i := 0) rfl ?_
      obtain ⟨a21, f22, r23, m24, hw⟩ := hw
      refine z_invV hX hd r23 (ci := 1) rfl rfl m24 dX2_reply_17 (hC 87 _ zm87 _ _ _ _ hw) q415 q417 qs1 zh2 q418 q131 zn87 rfl (Nat.le_of_ble_eq_true rfl) (st := []) rfl (zcs8 (Nat.le_of_ble_eq_true rfl)) rfl (zkR (fun v18 s19 hw => ?_)) (zout hX hR hTb)
      refine z_iload_n hX dX2_reply_20 rfl (i := 1) rfl ?_
      obtain ⟨a25, n26, f27, r28, m29, i30, hw⟩ := hw
      refine z_iald hX dX2_reply_21 r28 m29 i30 ?_
      revert hw
      generalize f27 (Int32.toNatClampNeg x1) = v31
      intro hw
      refine z_sub (ls' := [none, none]) (zsN (zsN (zs0))) ?_
      exact hj16 _ _ hw
    · have hw := hw.2 c17
      refine z_iconst hX (v := (0 : Int32)) dX2_reply_12 (by decide) ?_
      refine z_goto hX dX2_reply_13 (tgt := 22) rfl ?_
      refine z_sub (ls' := [none, none]) (zsN (zsN (zs0))) ?_
      exact hj16 _ _ hw
abbrev cX2_copy : ByteArray := prog_20_method_2_code
def yX2_copy : MethodName := ⟨RX2, "copy", "()LPackingDuel$State;"⟩
def dkwX2_copy_8 : List UInt8 := [176]
abbrev dktX2_copy_8 : List UInt8 := dkwX2_copy_8 ++ []
def dkwX2_copy_7 : List UInt8 := [42, 180, 0, 58, 181, 0, 58, 43, 42, 180, 0, 61, 181, 0, 61, 43, 42, 180, 0, 64, 181, 0, 64, 43]
abbrev dktX2_copy_7 : List UInt8 := dkwX2_copy_7 ++ dktX2_copy_8
def dkwX2_copy_6 : List UInt8 := [42, 180, 0, 48, 181, 0, 48, 43, 42, 180, 0, 52, 181, 0, 52, 43, 42, 180, 0, 55, 181, 0, 55, 43]
abbrev dktX2_copy_6 : List UInt8 := dkwX2_copy_6 ++ dktX2_copy_7
def dkwX2_copy_5 : List UInt8 := [87, 132, 2, 1, 167, 255, 223, 43, 42, 180, 0, 41, 181, 0, 41, 43, 42, 180, 0, 45, 181, 0, 45, 43]
abbrev dktX2_copy_5 : List UInt8 := dkwX2_copy_5 ++ dktX2_copy_6
def dkwX2_copy_4 : List UInt8 := [182, 0, 25, 162, 0, 28, 43, 180, 0, 21, 42, 180, 0, 21, 28, 182, 0, 29, 192, 0, 39, 182, 0, 35]
abbrev dktX2_copy_4 : List UInt8 := dkwX2_copy_4 ++ dktX2_copy_5
def dkwX2_copy_3 : List UInt8 := [182, 0, 29, 192, 0, 39, 182, 0, 35, 87, 132, 2, 1, 167, 255, 223, 3, 61, 28, 42, 180, 0, 21]
abbrev dktX2_copy_3 : List UInt8 := dkwX2_copy_3 ++ dktX2_copy_4
def dkwX2_copy_2 : List UInt8 := [3, 61, 28, 42, 180, 0, 18, 182, 0, 25, 162, 0, 28, 43, 180, 0, 18, 42, 180, 0, 18, 28]
abbrev dktX2_copy_2 : List UInt8 := dkwX2_copy_2 ++ dktX2_copy_3
def dkwX2_copy_1 : List UInt8 := [180, 0, 12, 42, 180, 0, 12, 28, 182, 0, 29, 192, 0, 33, 182, 0, 35, 87, 132, 2, 1, 167, 255, 223]
abbrev dktX2_copy_1 : List UInt8 := dkwX2_copy_1 ++ dktX2_copy_2
def dkwX2_copy_0 : List UInt8 := [187, 0, 13, 89, 183, 0, 24, 76, 3, 61, 28, 42, 180, 0, 12, 182, 0, 25, 162, 0, 28, 43]
abbrev dktX2_copy_0 : List UInt8 := dkwX2_copy_0 ++ dktX2_copy_1
theorem dksX2_copy_0 : cX2_copy.data.toList.drop 0 = dktX2_copy_0 := by decide +kernel
theorem dksX2_copy_1 : cX2_copy.data.toList.drop 22 = dktX2_copy_1 := dk_seg dksX2_copy_0 22 rfl rfl
theorem dksX2_copy_2 : cX2_copy.data.toList.drop 46 = dktX2_copy_2 := dk_seg dksX2_copy_1 24 rfl rfl
theorem dksX2_copy_3 : cX2_copy.data.toList.drop 68 = dktX2_copy_3 := dk_seg dksX2_copy_2 22 rfl rfl
theorem dksX2_copy_4 : cX2_copy.data.toList.drop 91 = dktX2_copy_4 := dk_seg dksX2_copy_3 23 rfl rfl
theorem dksX2_copy_5 : cX2_copy.data.toList.drop 115 = dktX2_copy_5 := dk_seg dksX2_copy_4 24 rfl rfl
theorem dksX2_copy_6 : cX2_copy.data.toList.drop 139 = dktX2_copy_6 := dk_seg dksX2_copy_5 24 rfl rfl
theorem dksX2_copy_7 : cX2_copy.data.toList.drop 163 = dktX2_copy_7 := dk_seg dksX2_copy_6 24 rfl rfl
theorem dksX2_copy_8 : cX2_copy.data.toList.drop 187 = dktX2_copy_8 := dk_seg dksX2_copy_7 24 rfl rfl
theorem dX2_copy_0 : decode cX2_copy 0 = .ok (.new 13, 3) := dk_187 0 13 (dk_at dksX2_copy_0 0 rfl rfl)
theorem dX2_copy_3 : decode cX2_copy 3 = .ok (.dup, 1) := dk_89 (dk_at dksX2_copy_0 3 rfl rfl)
theorem dX2_copy_4 : decode cX2_copy 4 = .ok (.invokespecial 24, 3) := dk_183 0 24 (dk_at dksX2_copy_0 4 rfl rfl)
theorem dX2_copy_7 : decode cX2_copy 7 = .ok (.astore_n 1, 1) := dk_76 (dk_at dksX2_copy_0 7 rfl rfl)
theorem dX2_copy_8 : decode cX2_copy 8 = .ok (.iconst 0, 1) := dk_3 (dk_at dksX2_copy_0 8 rfl rfl)
theorem dX2_copy_9 : decode cX2_copy 9 = .ok (.istore_n 2, 1) := dk_61 (dk_at dksX2_copy_0 9 rfl rfl)
theorem dX2_copy_10 : decode cX2_copy 10 = .ok (.iload_n 2, 1) := dk_28 (dk_at dksX2_copy_0 10 rfl rfl)
theorem dX2_copy_11 : decode cX2_copy 11 = .ok (.aload_n 0, 1) := dk_42 (dk_at dksX2_copy_0 11 rfl rfl)
theorem dX2_copy_12 : decode cX2_copy 12 = .ok (.getfield 12, 3) := dk_180 0 12 (dk_at dksX2_copy_0 12 rfl rfl)
theorem dX2_copy_15 : decode cX2_copy 15 = .ok (.invokevirtual 25, 3) := dk_182 0 25 (dk_at dksX2_copy_0 15 rfl rfl)
theorem dX2_copy_18 : decode cX2_copy 18 = .ok (.if_icmp .ge 28, 3) := dk_162 0 28 (dk_at dksX2_copy_0 18 rfl rfl)
theorem dX2_copy_21 : decode cX2_copy 21 = .ok (.aload_n 1, 1) := dk_43 (dk_at dksX2_copy_0 21 rfl rfl)
theorem dX2_copy_22 : decode cX2_copy 22 = .ok (.getfield 12, 3) := dk_180 0 12 (dk_at dksX2_copy_1 0 rfl rfl)
theorem dX2_copy_25 : decode cX2_copy 25 = .ok (.aload_n 0, 1) := dk_42 (dk_at dksX2_copy_1 3 rfl rfl)
theorem dX2_copy_26 : decode cX2_copy 26 = .ok (.getfield 12, 3) := dk_180 0 12 (dk_at dksX2_copy_1 4 rfl rfl)
theorem dX2_copy_29 : decode cX2_copy 29 = .ok (.iload_n 2, 1) := dk_28 (dk_at dksX2_copy_1 7 rfl rfl)
theorem dX2_copy_30 : decode cX2_copy 30 = .ok (.invokevirtual 29, 3) := dk_182 0 29 (dk_at dksX2_copy_1 8 rfl rfl)
theorem dX2_copy_33 : decode cX2_copy 33 = .ok (.checkcast 33, 3) := dk_192 0 33 (dk_at dksX2_copy_1 11 rfl rfl)
theorem dX2_copy_36 : decode cX2_copy 36 = .ok (.invokevirtual 35, 3) := dk_182 0 35 (dk_at dksX2_copy_1 14 rfl rfl)
theorem dX2_copy_39 : decode cX2_copy 39 = .ok (.pop, 1) := dk_87 (dk_at dksX2_copy_1 17 rfl rfl)
theorem dX2_copy_40 : decode cX2_copy 40 = .ok (.iinc 2 1, 3) := dk_132 2 1 (dk_at dksX2_copy_1 18 rfl rfl)
theorem dX2_copy_43 : decode cX2_copy 43 = .ok (.goto (-33), 3) := dk_167 255 223 (dk_at dksX2_copy_1 21 rfl rfl)
theorem dX2_copy_46 : decode cX2_copy 46 = .ok (.iconst 0, 1) := dk_3 (dk_at dksX2_copy_2 0 rfl rfl)
theorem dX2_copy_47 : decode cX2_copy 47 = .ok (.istore_n 2, 1) := dk_61 (dk_at dksX2_copy_2 1 rfl rfl)
theorem dX2_copy_48 : decode cX2_copy 48 = .ok (.iload_n 2, 1) := dk_28 (dk_at dksX2_copy_2 2 rfl rfl)
theorem dX2_copy_49 : decode cX2_copy 49 = .ok (.aload_n 0, 1) := dk_42 (dk_at dksX2_copy_2 3 rfl rfl)
theorem dX2_copy_50 : decode cX2_copy 50 = .ok (.getfield 18, 3) := dk_180 0 18 (dk_at dksX2_copy_2 4 rfl rfl)
theorem dX2_copy_53 : decode cX2_copy 53 = .ok (.invokevirtual 25, 3) := dk_182 0 25 (dk_at dksX2_copy_2 7 rfl rfl)
theorem dX2_copy_56 : decode cX2_copy 56 = .ok (.if_icmp .ge 28, 3) := dk_162 0 28 (dk_at dksX2_copy_2 10 rfl rfl)
theorem dX2_copy_59 : decode cX2_copy 59 = .ok (.aload_n 1, 1) := dk_43 (dk_at dksX2_copy_2 13 rfl rfl)
theorem dX2_copy_60 : decode cX2_copy 60 = .ok (.getfield 18, 3) := dk_180 0 18 (dk_at dksX2_copy_2 14 rfl rfl)
theorem dX2_copy_63 : decode cX2_copy 63 = .ok (.aload_n 0, 1) := dk_42 (dk_at dksX2_copy_2 17 rfl rfl)
theorem dX2_copy_64 : decode cX2_copy 64 = .ok (.getfield 18, 3) := dk_180 0 18 (dk_at dksX2_copy_2 18 rfl rfl)
theorem dX2_copy_67 : decode cX2_copy 67 = .ok (.iload_n 2, 1) := dk_28 (dk_at dksX2_copy_2 21 rfl rfl)
theorem dX2_copy_68 : decode cX2_copy 68 = .ok (.invokevirtual 29, 3) := dk_182 0 29 (dk_at dksX2_copy_3 0 rfl rfl)
theorem dX2_copy_71 : decode cX2_copy 71 = .ok (.checkcast 39, 3) := dk_192 0 39 (dk_at dksX2_copy_3 3 rfl rfl)
theorem dX2_copy_74 : decode cX2_copy 74 = .ok (.invokevirtual 35, 3) := dk_182 0 35 (dk_at dksX2_copy_3 6 rfl rfl)
theorem dX2_copy_77 : decode cX2_copy 77 = .ok (.pop, 1) := dk_87 (dk_at dksX2_copy_3 9 rfl rfl)
theorem dX2_copy_78 : decode cX2_copy 78 = .ok (.iinc 2 1, 3) := dk_132 2 1 (dk_at dksX2_copy_3 10 rfl rfl)
theorem dX2_copy_81 : decode cX2_copy 81 = .ok (.goto (-33), 3) := dk_167 255 223 (dk_at dksX2_copy_3 13 rfl rfl)
theorem dX2_copy_84 : decode cX2_copy 84 = .ok (.iconst 0, 1) := dk_3 (dk_at dksX2_copy_3 16 rfl rfl)
theorem dX2_copy_85 : decode cX2_copy 85 = .ok (.istore_n 2, 1) := dk_61 (dk_at dksX2_copy_3 17 rfl rfl)
theorem dX2_copy_86 : decode cX2_copy 86 = .ok (.iload_n 2, 1) := dk_28 (dk_at dksX2_copy_3 18 rfl rfl)
theorem dX2_copy_87 : decode cX2_copy 87 = .ok (.aload_n 0, 1) := dk_42 (dk_at dksX2_copy_3 19 rfl rfl)
theorem dX2_copy_88 : decode cX2_copy 88 = .ok (.getfield 21, 3) := dk_180 0 21 (dk_at dksX2_copy_3 20 rfl rfl)
theorem dX2_copy_91 : decode cX2_copy 91 = .ok (.invokevirtual 25, 3) := dk_182 0 25 (dk_at dksX2_copy_4 0 rfl rfl)
theorem dX2_copy_94 : decode cX2_copy 94 = .ok (.if_icmp .ge 28, 3) := dk_162 0 28 (dk_at dksX2_copy_4 3 rfl rfl)
theorem dX2_copy_97 : decode cX2_copy 97 = .ok (.aload_n 1, 1) := dk_43 (dk_at dksX2_copy_4 6 rfl rfl)
theorem dX2_copy_98 : decode cX2_copy 98 = .ok (.getfield 21, 3) := dk_180 0 21 (dk_at dksX2_copy_4 7 rfl rfl)
theorem dX2_copy_101 : decode cX2_copy 101 = .ok (.aload_n 0, 1) := dk_42 (dk_at dksX2_copy_4 10 rfl rfl)
theorem dX2_copy_102 : decode cX2_copy 102 = .ok (.getfield 21, 3) := dk_180 0 21 (dk_at dksX2_copy_4 11 rfl rfl)
theorem dX2_copy_105 : decode cX2_copy 105 = .ok (.iload_n 2, 1) := dk_28 (dk_at dksX2_copy_4 14 rfl rfl)
theorem dX2_copy_106 : decode cX2_copy 106 = .ok (.invokevirtual 29, 3) := dk_182 0 29 (dk_at dksX2_copy_4 15 rfl rfl)
theorem dX2_copy_109 : decode cX2_copy 109 = .ok (.checkcast 39, 3) := dk_192 0 39 (dk_at dksX2_copy_4 18 rfl rfl)
theorem dX2_copy_112 : decode cX2_copy 112 = .ok (.invokevirtual 35, 3) := dk_182 0 35 (dk_at dksX2_copy_4 21 rfl rfl)
theorem dX2_copy_115 : decode cX2_copy 115 = .ok (.pop, 1) := dk_87 (dk_at dksX2_copy_5 0 rfl rfl)
theorem dX2_copy_116 : decode cX2_copy 116 = .ok (.iinc 2 1, 3) := dk_132 2 1 (dk_at dksX2_copy_5 1 rfl rfl)
theorem dX2_copy_119 : decode cX2_copy 119 = .ok (.goto (-33), 3) := dk_167 255 223 (dk_at dksX2_copy_5 4 rfl rfl)
theorem dX2_copy_122 : decode cX2_copy 122 = .ok (.aload_n 1, 1) := dk_43 (dk_at dksX2_copy_5 7 rfl rfl)
theorem dX2_copy_123 : decode cX2_copy 123 = .ok (.aload_n 0, 1) := dk_42 (dk_at dksX2_copy_5 8 rfl rfl)
theorem dX2_copy_124 : decode cX2_copy 124 = .ok (.getfield 41, 3) := dk_180 0 41 (dk_at dksX2_copy_5 9 rfl rfl)
theorem dX2_copy_127 : decode cX2_copy 127 = .ok (.putfield 41, 3) := dk_181 0 41 (dk_at dksX2_copy_5 12 rfl rfl)
theorem dX2_copy_130 : decode cX2_copy 130 = .ok (.aload_n 1, 1) := dk_43 (dk_at dksX2_copy_5 15 rfl rfl)
theorem dX2_copy_131 : decode cX2_copy 131 = .ok (.aload_n 0, 1) := dk_42 (dk_at dksX2_copy_5 16 rfl rfl)
theorem dX2_copy_132 : decode cX2_copy 132 = .ok (.getfield 45, 3) := dk_180 0 45 (dk_at dksX2_copy_5 17 rfl rfl)
theorem dX2_copy_135 : decode cX2_copy 135 = .ok (.putfield 45, 3) := dk_181 0 45 (dk_at dksX2_copy_5 20 rfl rfl)
theorem dX2_copy_138 : decode cX2_copy 138 = .ok (.aload_n 1, 1) := dk_43 (dk_at dksX2_copy_5 23 rfl rfl)
theorem dX2_copy_139 : decode cX2_copy 139 = .ok (.aload_n 0, 1) := dk_42 (dk_at dksX2_copy_6 0 rfl rfl)
theorem dX2_copy_140 : decode cX2_copy 140 = .ok (.getfield 48, 3) := dk_180 0 48 (dk_at dksX2_copy_6 1 rfl rfl)
theorem dX2_copy_143 : decode cX2_copy 143 = .ok (.putfield 48, 3) := dk_181 0 48 (dk_at dksX2_copy_6 4 rfl rfl)
theorem dX2_copy_146 : decode cX2_copy 146 = .ok (.aload_n 1, 1) := dk_43 (dk_at dksX2_copy_6 7 rfl rfl)
theorem dX2_copy_147 : decode cX2_copy 147 = .ok (.aload_n 0, 1) := dk_42 (dk_at dksX2_copy_6 8 rfl rfl)
theorem dX2_copy_148 : decode cX2_copy 148 = .ok (.getfield 52, 3) := dk_180 0 52 (dk_at dksX2_copy_6 9 rfl rfl)
theorem dX2_copy_151 : decode cX2_copy 151 = .ok (.putfield 52, 3) := dk_181 0 52 (dk_at dksX2_copy_6 12 rfl rfl)
theorem dX2_copy_154 : decode cX2_copy 154 = .ok (.aload_n 1, 1) := dk_43 (dk_at dksX2_copy_6 15 rfl rfl)
theorem dX2_copy_155 : decode cX2_copy 155 = .ok (.aload_n 0, 1) := dk_42 (dk_at dksX2_copy_6 16 rfl rfl)
theorem dX2_copy_156 : decode cX2_copy 156 = .ok (.getfield 55, 3) := dk_180 0 55 (dk_at dksX2_copy_6 17 rfl rfl)
theorem dX2_copy_159 : decode cX2_copy 159 = .ok (.putfield 55, 3) := dk_181 0 55 (dk_at dksX2_copy_6 20 rfl rfl)
theorem dX2_copy_162 : decode cX2_copy 162 = .ok (.aload_n 1, 1) := dk_43 (dk_at dksX2_copy_6 23 rfl rfl)
theorem dX2_copy_163 : decode cX2_copy 163 = .ok (.aload_n 0, 1) := dk_42 (dk_at dksX2_copy_7 0 rfl rfl)
theorem dX2_copy_164 : decode cX2_copy 164 = .ok (.getfield 58, 3) := dk_180 0 58 (dk_at dksX2_copy_7 1 rfl rfl)
theorem dX2_copy_167 : decode cX2_copy 167 = .ok (.putfield 58, 3) := dk_181 0 58 (dk_at dksX2_copy_7 4 rfl rfl)
theorem dX2_copy_170 : decode cX2_copy 170 = .ok (.aload_n 1, 1) := dk_43 (dk_at dksX2_copy_7 7 rfl rfl)
theorem dX2_copy_171 : decode cX2_copy 171 = .ok (.aload_n 0, 1) := dk_42 (dk_at dksX2_copy_7 8 rfl rfl)
theorem dX2_copy_172 : decode cX2_copy 172 = .ok (.getfield 61, 3) := dk_180 0 61 (dk_at dksX2_copy_7 9 rfl rfl)
theorem dX2_copy_175 : decode cX2_copy 175 = .ok (.putfield 61, 3) := dk_181 0 61 (dk_at dksX2_copy_7 12 rfl rfl)
theorem dX2_copy_178 : decode cX2_copy 178 = .ok (.aload_n 1, 1) := dk_43 (dk_at dksX2_copy_7 15 rfl rfl)
theorem dX2_copy_179 : decode cX2_copy 179 = .ok (.aload_n 0, 1) := dk_42 (dk_at dksX2_copy_7 16 rfl rfl)
theorem dX2_copy_180 : decode cX2_copy 180 = .ok (.getfield 64, 3) := dk_180 0 64 (dk_at dksX2_copy_7 17 rfl rfl)
theorem dX2_copy_183 : decode cX2_copy 183 = .ok (.putfield 64, 3) := dk_181 0 64 (dk_at dksX2_copy_7 20 rfl rfl)
theorem dX2_copy_186 : decode cX2_copy 186 = .ok (.aload_n 1, 1) := dk_43 (dk_at dksX2_copy_7 23 rfl rfl)
theorem dX2_copy_187 : decode cX2_copy 187 = .ok (.areturn, 1) := dk_176 (dk_at dksX2_copy_8 0 rfl rfl)
/-- PackingDuel$State.copy()LPackingDuel$State; -/
def zb105 (G : zPg) (C : zO) (args : List Value) (Q : zQ) (Y : zY) (σ : zS) : Prop := ∃ (a0 : Nat), args = [.ref a0] ∧ (znew σ 1 [va_rf none, va_rf none, va_rf none, .int 0, .int 0, .int 0, .int 0, .int 0, .int 0, .int 0, .int 0, va_rf none, va_rf none, va_rf none, va_rf none] 15 (fun s1 => (∃ a7, (some σ.2.1) = some a7 ∧ zcl C 81 [.ref a7] Y s1 (zqV (fun s5 => ∃ n, zIt (fun _ _ => False) (fun rec11 (p9 : Int32) (s10 : zS) => zgR s10 (some a0) 1 0 (fun v12 => zrc s10 v12 2 (fun a21 => zcl C 128 [.ref a21] Y s10 (zqI (fun v18 s19 => ((v18 ≤ p9) → ∃ n, zIt (fun _ _ => False) (fun rec28 (p26 : Int32) (s27 : zS) => zgR s27 (some a0) 1 1 (fun v29 => zrc s27 v29 2 (fun a38 => zcl C 128 [.ref a38] Y s27 (zqI (fun v35 s36 => ((v35 ≤ p26) → ∃ n, zIt (fun _ _ => False) (fun rec45 (p43 : Int32) (s44 : zS) => zgR s44 (some a0) 1 2 (fun v46 => zrc s44 v46 2 (fun a55 => zcl C 128 [.ref a55] Y s44 (zqI (fun v52 s53 => ((v52 ≤ p43) → zgI s53 (some a0) 1 3 (fun v60 => zput s53 G.1 (some σ.2.1) 1 3 (.int v60) (fun s66 => zgI s66 (some a0) 1 4 (fun v74 => zput s66 G.1 (some σ.2.1) 1 4 (.int v74) (fun s80 => zgI s80 (some a0) 1 5 (fun v88 => (zbool v88 ∧ zput s80 G.1 (some σ.2.1) 1 5 (.int v88) (fun s94 => zgI s94 (some a0) 1 6 (fun v103 => zput s94 G.1 (some σ.2.1) 1 6 (.int v103) (fun s109 => zgI s109 (some a0) 1 7 (fun v117 => zput s109 G.1 (some σ.2.1) 1 7 (.int v117) (fun s123 => zgI s123 (some a0) 1 8 (fun v131 => zput s123 G.1 (some σ.2.1) 1 8 (.int v131) (fun s137 => zgI s137 (some a0) 1 9 (fun v145 => zput s137 G.1 (some σ.2.1) 1 9 (.int v145) (fun s151 => zgI s151 (some a0) 1 10 (fun v159 => zput s151 G.1 (some σ.2.1) 1 10 (.int v159) (fun s165 => Q (some (va_rf (some σ.2.1))) s165)))))))))))))))))) ∧ ((¬ v52 ≤ p43) → zgR s53 (some σ.2.1) 1 2 (fun v173 => zgR s53 (some a0) 1 2 (fun v179 => zrc s53 v179 2 (fun a188 => zcl C 129 [.ref a188, .int p43] Y s53 (zqR (fun v185 s186 => (zcst s186 v185 [10] ∧ zrc s186 v173 2 (fun a195 => zcl C 131 [.ref a195, va_rf v185] Y s186 (zqI (fun v192 s193 => (∀ v199 : Int32, v199 = p43 + (1 : Int32) → rec45 v199 s193)))))))))))))))) n (0 : Int32) s36) ∧ ((¬ v35 ≤ p26) → zgR s36 (some σ.2.1) 1 1 (fun v202 => zgR s36 (some a0) 1 1 (fun v208 => zrc s36 v208 2 (fun a217 => zcl C 129 [.ref a217, .int p26] Y s36 (zqR (fun v214 s215 => (zcst s215 v214 [10] ∧ zrc s215 v202 2 (fun a224 => zcl C 131 [.ref a224, va_rf v214] Y s215 (zqI (fun v221 s222 => (∀ v228 : Int32, v228 = p26 + (1 : Int32) → rec28 v228 s222)))))))))))))))) n (0 : Int32) s19) ∧ ((¬ v18 ≤ p9) → zgR s19 (some σ.2.1) 1 0 (fun v231 => zgR s19 (some a0) 1 0 (fun v237 => zrc s19 v237 2 (fun a246 => zcl C 129 [.ref a246, .int p9] Y s19 (zqR (fun v243 s244 => (zcst s244 v243 [12] ∧ zrc s244 v231 2 (fun a253 => zcl C 131 [.ref a253, va_rf v243] Y s244 (zqI (fun v250 s251 => (∀ v257 : Int32, v257 = p9 + (1 : Int32) → rec11 v257 s251)))))))))))))))) n (0 : Int32) s5)))))
set_option maxHeartbeats 4000000 in
theorem wk105 {l : Launch} {g : zG} {d : Nat} {C : zO} (hG : zGk g) (hC : zSound l g d C) {args : List Value} {Q : zQ} {Y : zY} {σ : zS} (hw : zb105 (zpg g) C args Q Y σ) : zMet l g (d + 1) (⟨"PackingDuel$State", "copy", "()LPackingDuel$State;"⟩, Cond.code ⟨"PackingDuel$State", "copy", "()LPackingDuel$State;"⟩ prog_20_method_2_code 3 (Option.some (FieldType.object "PackingDuel$State"))) args σ Q Y := by
  obtain ⟨a0, rfl, hw⟩ := hw
  refine zof hG (by decide +kernel) [false] ⟨rfl, trivial⟩ (Nat.le_of_ble_eq_true rfl) (ls := [some (va_rf (some a0)), none, none]) rfl ?_
  intro X hX hR hTb hd1 hd2 hl hg hnm
  subst hl
  subst hg
  have hd : zDep X d := ⟨hd1, hd2⟩
  refine z_new hX zc1 dX2_copy_0 q762 q194 q131 (fs := [va_rf none, va_rf none, va_rf none, .int 0, .int 0, .int 0, .int 0, .int 0, .int 0, .int 0, .int 0, va_rf none, va_rf none, va_rf none, va_rf none]) (fun j hj => by have hj : j < 15 := hj; exact zdf1 j hj) hw.1 hw.2.1 (fun z2 => z_nm (fun s1 e3 => ?_))
  have hw := hw.2.2 z2 s1 e3
  refine z_dup hX dX2_copy_3 (zc_rf _) ?_
  obtain ⟨a7, r8, hw⟩ := hw
  refine z_invI hX hd r8 dX2_copy_4 (hC 81 _ zm81 _ _ _ _ hw) q763 q196 rfl zh2 q197 q131 zn81 rfl (Nat.le_of_ble_eq_true rfl) (st := [va_rf (some σ.2.1)]) rfl (zcs8 (Nat.le_of_ble_eq_true rfl)) rfl (zkV (fun s5 hw => ?_)) (zout hX hR hTb)
  refine z_astore_n hX dX2_copy_7 rfl (i := 1) (Nat.le_of_ble_eq_true rfl) (zc_rf _) (ls2 := [some (va_rf (some a0)), some (va_rf (some σ.2.1)), none]) rfl ?_
  refine z_iconst hX (v := (0 : Int32)) dX2_copy_8 (by decide) ?_
  refine z_istore_n hX dX2_copy_9 rfl (i := 2) (Nat.le_of_ble_eq_true rfl) (zc_rf _) (ls2 := [some (va_rf (some a0)), some (va_rf (some σ.2.1)), some (.int (0 : Int32))]) rfl ?_
  obtain ⟨n259, hw⟩ := hw
  refine zIt_w (P := fun (j : Int32 → zS → Prop) => ∀ (p9 : Int32) (s10 : zS), j p9 s10 → zW X s10 10 [some (va_rf (some a0)), some (va_rf (some σ.2.1)), some (.int p9)] []) (fun _ _ h => h.elim) (fun rec11 hrec11 p9 s10 hw => ?_) n259 _ _ hw
  refine z_iload_n hX dX2_copy_10 rfl (i := 2) rfl ?_
  refine z_aload_n hX dX2_copy_11 rfl (i := 0) rfl ?_
  obtain ⟨a13, f14, v12, r15, m16, e17, hw⟩ := hw
  refine z_get hX zc1 (k := 0) dX2_copy_12 (Nat.le_of_ble_eq_true rfl) (zlk hX q225) r15 m16 e17 ?_
  obtain ⟨a21, f22, r23, m24, hw⟩ := hw
  refine z_invV hX hd r23 (ci := 2) rfl rfl m24 dX2_copy_15 (hC 128 _ zm128 _ _ _ _ hw) q477 q362 q363 zh5 q364 q134 zn128 rfl (Nat.le_of_ble_eq_true rfl) (st := [.int p9]) rfl (zcs8 (Nat.le_of_ble_eq_true rfl)) rfl (zkI (fun v18 s19 hw => ?_)) (zout hX hR hTb)
  refine z_icmp_ge hX dX2_copy_18 (tgt := 46) rfl (fun c25 => ?_) (fun c25 => ?_)
  · have hw := hw.1 c25
    refine z_iconst hX (v := (0 : Int32)) dX2_copy_46 (by decide) ?_
    refine z_istore_n hX dX2_copy_47 rfl (i := 2) (Nat.le_of_ble_eq_true rfl) (zc_rf _) (ls2 := [some (va_rf (some a0)), some (va_rf (some σ.2.1)), some (.int (0 : Int32))]) rfl ?_
    obtain ⟨n230, hw⟩ := hw
    refine zIt_w (P := fun (j : Int32 → zS → Prop) => ∀ (p26 : Int32) (s27 : zS), j p26 s27 → zW X s27 48 [some (va_rf (some a0)), some (va_rf (some σ.2.1)), some (.int p26)] []) (fun _ _ h => h.elim) (fun rec28 hrec28 p26 s27 hw => ?_) n230 _ _ hw
    refine z_iload_n hX dX2_copy_48 rfl (i := 2) rfl ?_
    refine z_aload_n hX dX2_copy_49 rfl (i := 0) rfl ?_
    obtain ⟨a30, f31, v29, r32, m33, e34, hw⟩ := hw
    refine z_get hX zc1 (k := 1) dX2_copy_50 (Nat.le_of_ble_eq_true rfl) (zlk hX q229) r32 m33 e34 ?_
    obtain ⟨a38, f39, r40, m41, hw⟩ := hw
    refine z_invV hX hd r40 (ci := 2) rfl rfl m41 dX2_copy_53 (hC 128 _ zm128 _ _ _ _ hw) q477 q362 q363 zh5 q364 q134 zn128 rfl (Nat.le_of_ble_eq_true rfl) (st := [.int p26]) rfl (zcs8 (Nat.le_of_ble_eq_true rfl)) rfl (zkI (fun v35 s36 hw => ?_)) (zout hX hR hTb)
    refine z_icmp_ge hX dX2_copy_56 (tgt := 84) rfl (fun c42 => ?_) (fun c42 => ?_)
    · have hw := hw.1 c42
      refine z_iconst hX (v := (0 : Int32)) dX2_copy_84 (by decide) ?_
      refine z_istore_n hX dX2_copy_85 rfl (i := 2) (Nat.le_of_ble_eq_true rfl) (zc_rf _) (ls2 := [some (va_rf (some a0)), some (va_rf (some σ.2.1)), some (.int (0 : Int32))]) rfl ?_
      obtain ⟨n201, hw⟩ := hw
      refine zIt_w (P := fun (j : Int32 → zS → Prop) => ∀ (p43 : Int32) (s44 : zS), j p43 s44 → zW X s44 86 [some (va_rf (some a0)), some (va_rf (some σ.2.1)), some (.int p43)] []) (fun _ _ h => h.elim) (fun rec45 hrec45 p43 s44 hw => ?_) n201 _ _ hw
      refine z_iload_n hX dX2_copy_86 rfl (i := 2) rfl ?_
      refine z_aload_n hX dX2_copy_87 rfl (i := 0) rfl ?_
      obtain ⟨a47, f48, v46, r49, m50, e51, hw⟩ := hw
      refine z_get hX zc1 (k := 2) dX2_copy_88 (Nat.le_of_ble_eq_true rfl) (zlk hX q231) r49 m50 e51 ?_
      obtain ⟨a55, f56, r57, m58, hw⟩ := hw
      refine z_invV hX hd r57 (ci := 2) rfl rfl m58 dX2_copy_91 (hC 128 _ zm128 _ _ _ _ hw) q477 q362 q363 zh5 q364 q134 zn128 rfl (Nat.le_of_ble_eq_true rfl) (st := [.int p43]) rfl (zcs8 (Nat.le_of_ble_eq_true rfl)) rfl (zkI (fun v52 s53 hw => ?_)) (zout hX hR hTb)
      refine z_icmp_ge hX dX2_copy_94 (tgt := 122) rfl (fun c59 => ?_) (fun c59 => ?_)
      · have hw := hw.1 c59
        refine z_aload_n hX dX2_copy_122 rfl (i := 1) rfl ?_
        refine z_aload_n hX dX2_copy_123 rfl (i := 0) rfl ?_
        obtain ⟨a61, f62, v60, r63, m64, e65, hw⟩ := hw
        refine z_get hX zc1 (k := 3) dX2_copy_124 (Nat.le_of_ble_eq_true rfl) (zlk hX q235) r63 m64 e65 ?_
        obtain ⟨a68, f69, r70, g71, m72, l73, hw⟩ := hw
        refine z_put hX zc1 (k := 3) dX2_copy_127 (Nat.le_of_ble_eq_true rfl) (zlk hX q235) rfl rfl rfl r70 g71 m72 l73 (z_nm (fun s66 e67 => ?_))
        have hw := hw s66 e67
        refine z_aload_n hX dX2_copy_130 rfl (i := 1) rfl ?_
        refine z_aload_n hX dX2_copy_131 rfl (i := 0) rfl ?_
        obtain ⟨a75, f76, v74, r77, m78, e79, hw⟩ := hw
        refine z_get hX zc1 (k := 4) dX2_copy_132 (Nat.le_of_ble_eq_true rfl) (zlk hX q238) r77 m78 e79 ?_
        obtain ⟨a82, f83, r84, g85, m86, l87, hw⟩ := hw
        refine z_put hX zc1 (k := 4) dX2_copy_135 (Nat.le_of_ble_eq_true rfl) (zlk hX q238) rfl rfl rfl r84 g85 m86 l87 (z_nm (fun s80 e81 => ?_))
        have hw := hw s80 e81
        refine z_aload_n hX dX2_copy_138 rfl (i := 1) rfl ?_
        refine z_aload_n hX dX2_copy_139 rfl (i := 0) rfl ?_
        obtain ⟨a89, f90, v88, r91, m92, e93, hw⟩ := hw
        refine z_get hX zc1 (k := 5) dX2_copy_140 (Nat.le_of_ble_eq_true rfl) (zlk hX q242) r91 m92 e93 ?_
        obtain ⟨b102, hw⟩ := hw
        obtain ⟨a96, f97, r98, g99, m100, l101, hw⟩ := hw
        refine z_put hX zc1 (k := 5) dX2_copy_143 (Nat.le_of_ble_eq_true rfl) (zlk hX q242) rfl (zn_z b102) (zf_z b102) r98 g99 m100 l101 (z_nm (fun s94 e95 => ?_))
        have hw := hw s94 e95
        refine z_aload_n hX dX2_copy_146 rfl (i := 1) rfl ?_
        refine z_aload_n hX dX2_copy_147 rfl (i := 0) rfl ?_
        obtain ⟨a104, f105, v103, r106, m107, e108, hw⟩ := hw
        refine z_get hX zc1 (k := 6) dX2_copy_148 (Nat.le_of_ble_eq_true rfl) (zlk hX q244) r106 m107 e108 ?_
        obtain ⟨a111, f112, r113, g114, m115, l116, hw⟩ := hw
        refine z_put hX zc1 (k := 6) dX2_copy_151 (Nat.le_of_ble_eq_true rfl) (zlk hX q244) rfl rfl rfl r113 g114 m115 l116 (z_nm (fun s109 e110 => ?_))
        have hw := hw s109 e110
        refine z_aload_n hX dX2_copy_154 rfl (i := 1) rfl ?_
        refine z_aload_n hX dX2_copy_155 rfl (i := 0) rfl ?_
        obtain ⟨a118, f119, v117, r120, m121, e122, hw⟩ := hw
        refine z_get hX zc1 (k := 7) dX2_copy_156 (Nat.le_of_ble_eq_true rfl) (zlk hX q246) r120 m121 e122 ?_
        obtain ⟨a125, f126, r127, g128, m129, l130, hw⟩ := hw
        refine z_put hX zc1 (k := 7) dX2_copy_159 (Nat.le_of_ble_eq_true rfl) (zlk hX q246) rfl rfl rfl r127 g128 m129 l130 (z_nm (fun s123 e124 => ?_))
        have hw := hw s123 e124
        refine z_aload_n hX dX2_copy_162 rfl (i := 1) rfl ?_
        refine z_aload_n hX dX2_copy_163 rfl (i := 0) rfl ?_
        obtain ⟨a132, f133, v131, r134, m135, e136, hw⟩ := hw
        refine z_get hX zc1 (k := 8) dX2_copy_164 (Nat.le_of_ble_eq_true rfl) (zlk hX q248) r134 m135 e136 ?_
        obtain ⟨a139, f140, r141, g142, m143, l144, hw⟩ := hw
        refine z_put hX zc1 (k := 8) dX2_copy_167 (Nat.le_of_ble_eq_true rfl) (zlk hX q248) rfl rfl rfl r141 g142 m143 l144 (z_nm (fun s137 e138 => ?_))
        have hw := hw s137 e138
        refine z_aload_n hX dX2_copy_170 rfl (i := 1) rfl ?_
        refine z_aload_n hX dX2_copy_171 rfl (i := 0) rfl ?_
        obtain ⟨a146, f147, v145, r148, m149, e150, hw⟩ := hw
        refine z_get hX zc1 (k := 9) dX2_copy_172 (Nat.le_of_ble_eq_true rfl) (zlk hX q250) r148 m149 e150 ?_
        obtain ⟨a153, f154, r155, g156, m157, l158, hw⟩ := hw
        refine z_put hX zc1 (k := 9) dX2_copy_175 (Nat.le_of_ble_eq_true rfl) (zlk hX q250) rfl rfl rfl r155 g156 m157 l158 (z_nm (fun s151 e152 => ?_))
        have hw := hw s151 e152
        refine z_aload_n hX dX2_copy_178 rfl (i := 1) rfl ?_
        refine z_aload_n hX dX2_copy_179 rfl (i := 0) rfl ?_
        obtain ⟨a160, f161, v159, r162, m163, e164, hw⟩ := hw
        refine z_get hX zc1 (k := 10) dX2_copy_180 (Nat.le_of_ble_eq_true rfl) (zlk hX q251) r162 m163 e164 ?_
        obtain ⟨a167, f168, r169, g170, m171, l172, hw⟩ := hw
        refine z_put hX zc1 (k := 10) dX2_copy_183 (Nat.le_of_ble_eq_true rfl) (zlk hX q251) rfl rfl rfl r169 g170 m171 l172 (z_nm (fun s165 e166 => ?_))
        have hw := hw s165 e166
        refine z_aload_n hX dX2_copy_186 rfl (i := 1) rfl ?_
        exact z_areturn hX hR dX2_copy_187 (Or.inl ⟨_, rfl⟩) hw
      · have hw := hw.2 c59
        refine z_aload_n hX dX2_copy_97 rfl (i := 1) rfl ?_
        obtain ⟨a174, f175, v173, r176, m177, e178, hw⟩ := hw
        refine z_get hX zc1 (k := 2) dX2_copy_98 (Nat.le_of_ble_eq_true rfl) (zlk hX q231) r176 m177 e178 ?_
        refine z_aload_n hX dX2_copy_101 rfl (i := 0) rfl ?_
        obtain ⟨a180, f181, v179, r182, m183, e184, hw⟩ := hw
        refine z_get hX zc1 (k := 2) dX2_copy_102 (Nat.le_of_ble_eq_true rfl) (zlk hX q231) r182 m183 e184 ?_
        refine z_iload_n hX dX2_copy_105 rfl (i := 2) rfl ?_
        obtain ⟨a188, f189, r190, m191, hw⟩ := hw
        refine z_invV hX hd r190 (ci := 2) rfl rfl m191 dX2_copy_106 (hC 129 _ zm129 _ _ _ _ hw) q512 q372 q373 zh5 q374 q134 zn129 rfl (Nat.le_of_ble_eq_true rfl) (st := [va_rf v173]) rfl (zcs8 (Nat.le_of_ble_eq_true rfl)) rfl (zkR (fun v185 s186 hw => ?_)) (zout hX hR hTb)
        refine z_cast hX dX2_copy_109 q513 (zfa1 ⟨_, rfl, Or.inl rfl⟩ (zfa0)) hw.1 ?_
        have hw := hw.2
        obtain ⟨a195, f196, r197, m198, hw⟩ := hw
        refine z_invV hX hd r197 (ci := 2) rfl rfl m198 dX2_copy_112 (hC 131 _ zm131 _ _ _ _ hw) q764 q765 q766 zh5 q767 q134 zn131 rfl (Nat.le_of_ble_eq_true rfl) (st := []) rfl (zcs8 (Nat.le_of_ble_eq_true rfl)) rfl (zkI (fun v192 s193 hw => ?_)) (zout hX hR hTb)
        refine z_pop hX dX2_copy_115 rfl ?_
        obtain ⟨v199, e200⟩ : ∃ y : Int32, y = p43 + (1 : Int32) := ⟨_, rfl⟩
        refine z_iinc hX dX2_copy_116 (i := 2) (v := v199) rfl (by rw [e200]; rfl) (Nat.le_of_ble_eq_true rfl) (zc_rf _) (ls2 := [some (va_rf (some a0)), some (va_rf (some σ.2.1)), some (.int v199)]) rfl ?_
        have hw := hw v199 e200
        refine z_goto hX dX2_copy_119 (tgt := 86) rfl ?_
        exact hrec45 _ _ hw
    · have hw := hw.2 c42
      refine z_aload_n hX dX2_copy_59 rfl (i := 1) rfl ?_
      obtain ⟨a203, f204, v202, r205, m206, e207, hw⟩ := hw
      refine z_get hX zc1 (k := 1) dX2_copy_60 (Nat.le_of_ble_eq_true rfl) (zlk hX q229) r205 m206 e207 ?_
      refine z_aload_n hX dX2_copy_63 rfl (i := 0) rfl ?_
      obtain ⟨a209, f210, v208, r211, m212, e213, hw⟩ := hw
      refine z_get hX zc1 (k := 1) dX2_copy_64 (Nat.le_of_ble_eq_true rfl) (zlk hX q229) r211 m212 e213 ?_
      refine z_iload_n hX dX2_copy_67 rfl (i := 2) rfl ?_
      obtain ⟨a217, f218, r219, m220, hw⟩ := hw
      refine z_invV hX hd r219 (ci := 2) rfl rfl m220 dX2_copy_68 (hC 129 _ zm129 _ _ _ _ hw) q512 q372 q373 zh5 q374 q134 zn129 rfl (Nat.le_of_ble_eq_true rfl) (st := [va_rf v202]) rfl (zcs8 (Nat.le_of_ble_eq_true rfl)) rfl (zkR (fun v214 s215 hw => ?_)) (zout hX hR hTb)
      refine z_cast hX dX2_copy_71 q513 (zfa1 ⟨_, rfl, Or.inl rfl⟩ (zfa0)) hw.1 ?_
      have hw := hw.2
      obtain ⟨a224, f225, r226, m227, hw⟩ := hw
      refine z_invV hX hd r226 (ci := 2) rfl rfl m227 dX2_copy_74 (hC 131 _ zm131 _ _ _ _ hw) q764 q765 q766 zh5 q767 q134 zn131 rfl (Nat.le_of_ble_eq_true rfl) (st := []) rfl (zcs8 (Nat.le_of_ble_eq_true rfl)) rfl (zkI (fun v221 s222 hw => ?_)) (zout hX hR hTb)
      refine z_pop hX dX2_copy_77 rfl ?_
      obtain ⟨v228, e229⟩ : ∃ y : Int32, y = p26 + (1 : Int32) := ⟨_, rfl⟩
      refine z_iinc hX dX2_copy_78 (i := 2) (v := v228) rfl (by rw [e229]; rfl) (Nat.le_of_ble_eq_true rfl) (zc_rf _) (ls2 := [some (va_rf (some a0)), some (va_rf (some σ.2.1)), some (.int v228)]) rfl ?_
      have hw := hw v228 e229
      refine z_goto hX dX2_copy_81 (tgt := 48) rfl ?_
      exact hrec28 _ _ hw
  · have hw := hw.2 c25
    refine z_aload_n hX dX2_copy_21 rfl (i := 1) rfl ?_
    obtain ⟨a232, f233, v231, r234, m235, e236, hw⟩ := hw
    refine z_get hX zc1 (k := 0) dX2_copy_22 (Nat.le_of_ble_eq_true rfl) (zlk hX q225) r234 m235 e236 ?_
    refine z_aload_n hX dX2_copy_25 rfl (i := 0) rfl ?_
    obtain ⟨a238, f239, v237, r240, m241, e242, hw⟩ := hw
    refine z_get hX zc1 (k := 0) dX2_copy_26 (Nat.le_of_ble_eq_true rfl) (zlk hX q225) r240 m241 e242 ?_
    refine z_iload_n hX dX2_copy_29 rfl (i := 2) rfl ?_
    obtain ⟨a246, f247, r248, m249, hw⟩ := hw
    refine z_invV hX hd r248 (ci := 2) rfl rfl m249 dX2_copy_30 (hC 129 _ zm129 _ _ _ _ hw) q512 q372 q373 zh5 q374 q134 zn129 rfl (Nat.le_of_ble_eq_true rfl) (st := [va_rf v231]) rfl (zcs8 (Nat.le_of_ble_eq_true rfl)) rfl (zkR (fun v243 s244 hw => ?_)) (zout hX hR hTb)
    refine z_cast hX dX2_copy_33 q529 (zfa1 ⟨_, rfl, Or.inl rfl⟩ (zfa0)) hw.1 ?_
    have hw := hw.2
    obtain ⟨a253, f254, r255, m256, hw⟩ := hw
    refine z_invV hX hd r255 (ci := 2) rfl rfl m256 dX2_copy_36 (hC 131 _ zm131 _ _ _ _ hw) q764 q765 q766 zh5 q767 q134 zn131 rfl (Nat.le_of_ble_eq_true rfl) (st := []) rfl (zcs8 (Nat.le_of_ble_eq_true rfl)) rfl (zkI (fun v250 s251 hw => ?_)) (zout hX hR hTb)
    refine z_pop hX dX2_copy_39 rfl ?_
    obtain ⟨v257, e258⟩ : ∃ y : Int32, y = p9 + (1 : Int32) := ⟨_, rfl⟩
    refine z_iinc hX dX2_copy_40 (i := 2) (v := v257) rfl (by rw [e258]; rfl) (Nat.le_of_ble_eq_true rfl) (zc_rf _) (ls2 := [some (va_rf (some a0)), some (va_rf (some σ.2.1)), some (.int v257)]) rfl ?_
    have hw := hw v257 e258
    refine z_goto hX dX2_copy_43 (tgt := 10) rfl ?_
    exact hrec11 _ _ hw
abbrev cX2_move : ByteArray := prog_20_method_35_code
def yX2_move : MethodName := ⟨RX2, "move", "(I)V"⟩
def dkwX2_move_3 : List UInt8 := [4, 42, 180, 0, 58, 100, 181, 0, 58, 42, 89, 180, 0, 64, 4, 96, 181, 0, 64, 177]
abbrev dktX2_move_3 : List UInt8 := dkwX2_move_3 ++ []
def dkwX2_move_2 : List UInt8 := [128, 181, 0, 55, 42, 27, 2, 160, 0, 12, 42, 180, 0, 61, 4, 96, 167, 0, 4, 3, 181, 0, 61, 42]
abbrev dktX2_move_2 : List UInt8 := dkwX2_move_2 ++ dktX2_move_3
def dkwX2_move_1 : List UInt8 := [128, 181, 0, 52, 42, 89, 180, 0, 55, 42, 180, 0, 58, 4, 160, 0, 9, 4, 27, 120, 167, 0, 4, 3]
abbrev dktX2_move_1 : List UInt8 := dkwX2_move_1 ++ dktX2_move_2
def dkwX2_move_0 : List UInt8 := [27, 2, 159, 0, 50, 42, 89, 180, 0, 52, 42, 180, 0, 58, 154, 0, 9, 4, 27, 120, 167, 0, 4, 3]
abbrev dktX2_move_0 : List UInt8 := dkwX2_move_0 ++ dktX2_move_1
theorem dksX2_move_0 : cX2_move.data.toList.drop 0 = dktX2_move_0 := by decide +kernel
theorem dksX2_move_1 : cX2_move.data.toList.drop 24 = dktX2_move_1 := dk_seg dksX2_move_0 24 rfl rfl
theorem dksX2_move_2 : cX2_move.data.toList.drop 48 = dktX2_move_2 := dk_seg dksX2_move_1 24 rfl rfl
theorem dksX2_move_3 : cX2_move.data.toList.drop 72 = dktX2_move_3 := dk_seg dksX2_move_2 24 rfl rfl
theorem dX2_move_0 : decode cX2_move 0 = .ok (.iload_n 1, 1) := dk_27 (dk_at dksX2_move_0 0 rfl rfl)
theorem dX2_move_1 : decode cX2_move 1 = .ok (.iconst (-1), 1) := dk_2 (dk_at dksX2_move_0 1 rfl rfl)
theorem dX2_move_2 : decode cX2_move 2 = .ok (.if_icmp .eq 50, 3) := dk_159 0 50 (dk_at dksX2_move_0 2 rfl rfl)
theorem dX2_move_5 : decode cX2_move 5 = .ok (.aload_n 0, 1) := dk_42 (dk_at dksX2_move_0 5 rfl rfl)
theorem dX2_move_6 : decode cX2_move 6 = .ok (.dup, 1) := dk_89 (dk_at dksX2_move_0 6 rfl rfl)
theorem dX2_move_7 : decode cX2_move 7 = .ok (.getfield 52, 3) := dk_180 0 52 (dk_at dksX2_move_0 7 rfl rfl)
theorem dX2_move_10 : decode cX2_move 10 = .ok (.aload_n 0, 1) := dk_42 (dk_at dksX2_move_0 10 rfl rfl)
theorem dX2_move_11 : decode cX2_move 11 = .ok (.getfield 58, 3) := dk_180 0 58 (dk_at dksX2_move_0 11 rfl rfl)
theorem dX2_move_14 : decode cX2_move 14 = .ok (.ifCond .ne 9, 3) := dk_154 0 9 (dk_at dksX2_move_0 14 rfl rfl)
theorem dX2_move_17 : decode cX2_move 17 = .ok (.iconst 1, 1) := dk_4 (dk_at dksX2_move_0 17 rfl rfl)
theorem dX2_move_18 : decode cX2_move 18 = .ok (.iload_n 1, 1) := dk_27 (dk_at dksX2_move_0 18 rfl rfl)
theorem dX2_move_19 : decode cX2_move 19 = .ok (.ishl, 1) := dk_120 (dk_at dksX2_move_0 19 rfl rfl)
theorem dX2_move_20 : decode cX2_move 20 = .ok (.goto 4, 3) := dk_167 0 4 (dk_at dksX2_move_0 20 rfl rfl)
theorem dX2_move_23 : decode cX2_move 23 = .ok (.iconst 0, 1) := dk_3 (dk_at dksX2_move_0 23 rfl rfl)
theorem dX2_move_24 : decode cX2_move 24 = .ok (.ior, 1) := dk_128 (dk_at dksX2_move_1 0 rfl rfl)
theorem dX2_move_25 : decode cX2_move 25 = .ok (.putfield 52, 3) := dk_181 0 52 (dk_at dksX2_move_1 1 rfl rfl)
theorem dX2_move_28 : decode cX2_move 28 = .ok (.aload_n 0, 1) := dk_42 (dk_at dksX2_move_1 4 rfl rfl)
theorem dX2_move_29 : decode cX2_move 29 = .ok (.dup, 1) := dk_89 (dk_at dksX2_move_1 5 rfl rfl)
theorem dX2_move_30 : decode cX2_move 30 = .ok (.getfield 55, 3) := dk_180 0 55 (dk_at dksX2_move_1 6 rfl rfl)
theorem dX2_move_33 : decode cX2_move 33 = .ok (.aload_n 0, 1) := dk_42 (dk_at dksX2_move_1 9 rfl rfl)
theorem dX2_move_34 : decode cX2_move 34 = .ok (.getfield 58, 3) := dk_180 0 58 (dk_at dksX2_move_1 10 rfl rfl)
theorem dX2_move_37 : decode cX2_move 37 = .ok (.iconst 1, 1) := dk_4 (dk_at dksX2_move_1 13 rfl rfl)
theorem dX2_move_38 : decode cX2_move 38 = .ok (.if_icmp .ne 9, 3) := dk_160 0 9 (dk_at dksX2_move_1 14 rfl rfl)
theorem dX2_move_41 : decode cX2_move 41 = .ok (.iconst 1, 1) := dk_4 (dk_at dksX2_move_1 17 rfl rfl)
theorem dX2_move_42 : decode cX2_move 42 = .ok (.iload_n 1, 1) := dk_27 (dk_at dksX2_move_1 18 rfl rfl)
theorem dX2_move_43 : decode cX2_move 43 = .ok (.ishl, 1) := dk_120 (dk_at dksX2_move_1 19 rfl rfl)
theorem dX2_move_44 : decode cX2_move 44 = .ok (.goto 4, 3) := dk_167 0 4 (dk_at dksX2_move_1 20 rfl rfl)
theorem dX2_move_47 : decode cX2_move 47 = .ok (.iconst 0, 1) := dk_3 (dk_at dksX2_move_1 23 rfl rfl)
theorem dX2_move_48 : decode cX2_move 48 = .ok (.ior, 1) := dk_128 (dk_at dksX2_move_2 0 rfl rfl)
theorem dX2_move_49 : decode cX2_move 49 = .ok (.putfield 55, 3) := dk_181 0 55 (dk_at dksX2_move_2 1 rfl rfl)
theorem dX2_move_52 : decode cX2_move 52 = .ok (.aload_n 0, 1) := dk_42 (dk_at dksX2_move_2 4 rfl rfl)
theorem dX2_move_53 : decode cX2_move 53 = .ok (.iload_n 1, 1) := dk_27 (dk_at dksX2_move_2 5 rfl rfl)
theorem dX2_move_54 : decode cX2_move 54 = .ok (.iconst (-1), 1) := dk_2 (dk_at dksX2_move_2 6 rfl rfl)
theorem dX2_move_55 : decode cX2_move 55 = .ok (.if_icmp .ne 12, 3) := dk_160 0 12 (dk_at dksX2_move_2 7 rfl rfl)
theorem dX2_move_58 : decode cX2_move 58 = .ok (.aload_n 0, 1) := dk_42 (dk_at dksX2_move_2 10 rfl rfl)
theorem dX2_move_59 : decode cX2_move 59 = .ok (.getfield 61, 3) := dk_180 0 61 (dk_at dksX2_move_2 11 rfl rfl)
theorem dX2_move_62 : decode cX2_move 62 = .ok (.iconst 1, 1) := dk_4 (dk_at dksX2_move_2 14 rfl rfl)
theorem dX2_move_63 : decode cX2_move 63 = .ok (.iadd, 1) := dk_96 (dk_at dksX2_move_2 15 rfl rfl)
theorem dX2_move_64 : decode cX2_move 64 = .ok (.goto 4, 3) := dk_167 0 4 (dk_at dksX2_move_2 16 rfl rfl)
theorem dX2_move_67 : decode cX2_move 67 = .ok (.iconst 0, 1) := dk_3 (dk_at dksX2_move_2 19 rfl rfl)
theorem dX2_move_68 : decode cX2_move 68 = .ok (.putfield 61, 3) := dk_181 0 61 (dk_at dksX2_move_2 20 rfl rfl)
theorem dX2_move_71 : decode cX2_move 71 = .ok (.aload_n 0, 1) := dk_42 (dk_at dksX2_move_2 23 rfl rfl)
theorem dX2_move_72 : decode cX2_move 72 = .ok (.iconst 1, 1) := dk_4 (dk_at dksX2_move_3 0 rfl rfl)
theorem dX2_move_73 : decode cX2_move 73 = .ok (.aload_n 0, 1) := dk_42 (dk_at dksX2_move_3 1 rfl rfl)
theorem dX2_move_74 : decode cX2_move 74 = .ok (.getfield 58, 3) := dk_180 0 58 (dk_at dksX2_move_3 2 rfl rfl)
theorem dX2_move_77 : decode cX2_move 77 = .ok (.isub, 1) := dk_100 (dk_at dksX2_move_3 5 rfl rfl)
theorem dX2_move_78 : decode cX2_move 78 = .ok (.putfield 58, 3) := dk_181 0 58 (dk_at dksX2_move_3 6 rfl rfl)
theorem dX2_move_81 : decode cX2_move 81 = .ok (.aload_n 0, 1) := dk_42 (dk_at dksX2_move_3 9 rfl rfl)
theorem dX2_move_82 : decode cX2_move 82 = .ok (.dup, 1) := dk_89 (dk_at dksX2_move_3 10 rfl rfl)
theorem dX2_move_83 : decode cX2_move 83 = .ok (.getfield 64, 3) := dk_180 0 64 (dk_at dksX2_move_3 11 rfl rfl)
theorem dX2_move_86 : decode cX2_move 86 = .ok (.iconst 1, 1) := dk_4 (dk_at dksX2_move_3 14 rfl rfl)
theorem dX2_move_87 : decode cX2_move 87 = .ok (.iadd, 1) := dk_96 (dk_at dksX2_move_3 15 rfl rfl)
theorem dX2_move_88 : decode cX2_move 88 = .ok (.putfield 64, 3) := dk_181 0 64 (dk_at dksX2_move_3 16 rfl rfl)
theorem dX2_move_91 : decode cX2_move 91 = .ok (.return_, 1) := dk_177 (dk_at dksX2_move_3 19 rfl rfl)
/-- PackingDuel$State.move(I)V -/
def zb106 (G : zPg) (C : zO) (args : List Value) (Q : zQ) (Y : zY) (σ : zS) : Prop := ∃ (a0 : Nat) (x1 : Int32), args = [.ref a0, .int x1] ∧ (zJ (fun  (s1 : zS) => zJ (fun (p3 : Int32) (s4 : zS) => zput s4 G.1 (some a0) 1 9 (.int p3) (fun s6 => zgI s6 (some a0) 1 8 (fun v14 => zput s6 G.1 (some a0) 1 8 (.int ((1 : Int32) - v14)) (fun s20 => zgI s20 (some a0) 1 10 (fun v28 => zput s20 G.1 (some a0) 1 10 (.int (v28 + (1 : Int32))) (fun s34 => Q none s34)))))) (fun (j5 : Int32 → zS → Prop) => ((¬ x1 = (-1 : Int32)) → j5 (0 : Int32) s1) ∧ ((x1 = (-1 : Int32)) → zgI s1 (some a0) 1 9 (fun v43 => j5 (v43 + (1 : Int32)) s1)))) (fun (j2 : zS → Prop) => ((x1 = (-1 : Int32)) → j2 σ) ∧ ((¬ x1 = (-1 : Int32)) → zgI σ (some a0) 1 6 (fun v50 => zgI σ (some a0) 1 8 (fun v56 => zJ (fun (p62 : Int32) (s63 : zS) => zput s63 G.1 (some a0) 1 6 (.int (v50 ||| p62)) (fun s65 => zgI s65 (some a0) 1 7 (fun v73 => zgI s65 (some a0) 1 8 (fun v79 => zJ (fun (p85 : Int32) (s86 : zS) => zput s86 G.1 (some a0) 1 7 (.int (v73 ||| p85)) (fun s88 => j2 s88)) (fun (j87 : Int32 → zS → Prop) => ((¬ v79 = (1 : Int32)) → j87 (0 : Int32) s65) ∧ ((v79 = (1 : Int32)) → j87 ((1 : Int32) <<< (x1 &&& 31)) s65)))))) (fun (j64 : Int32 → zS → Prop) => ((¬ v56 = 0) → j64 (0 : Int32) σ) ∧ ((v56 = 0) → j64 ((1 : Int32) <<< (x1 &&& 31)) σ)))))))
set_option maxHeartbeats 4000000 in
theorem wk106 {l : Launch} {g : zG} {d : Nat} {C : zO} (hG : zGk g) (hC : zSound l g d C) {args : List Value} {Q : zQ} {Y : zY} {σ : zS} (hw : zb106 (zpg g) C args Q Y σ) : zMet l g (d + 1) (⟨"PackingDuel$State", "move", "(I)V"⟩, Cond.code ⟨"PackingDuel$State", "move", "(I)V"⟩ prog_20_method_35_code 2 (Option.none : Option FieldType)) args σ Q Y := by
  obtain ⟨a0, x1, rfl, hw⟩ := hw
  refine zof hG (by decide +kernel) [false, false] ⟨rfl, rfl, trivial⟩ (Nat.le_of_ble_eq_true rfl) (ls := [some (va_rf (some a0)), some (.int x1)]) rfl ?_
  intro X hX hR hTb hd1 hd2 hl hg hnm
  subst hl
  subst hg
  have hd : zDep X d := ⟨hd1, hd2⟩
  refine z_iload_n hX dX2_move_0 rfl (i := 1) rfl ?_
  refine z_iconst hX (v := (-1 : Int32)) dX2_move_1 (by decide) ?_
  refine zJ_w (P := fun (j : zS → Prop) => ∀  (s1 : zS), j  s1 → zW X s1 52 [some (va_rf (some a0)), some (.int x1)] []) hw (fun  s1 hw => ?_) (fun j2 hj2 hw => ?_)
  · refine z_aload_n hX dX2_move_52 rfl (i := 0) rfl ?_
    refine z_iload_n hX dX2_move_53 rfl (i := 1) rfl ?_
    refine z_iconst hX (v := (-1 : Int32)) dX2_move_54 (by decide) ?_
    refine zJ_w (P := fun (j : Int32 → zS → Prop) => ∀ (p3 : Int32) (s4 : zS), j p3 s4 → zW X s4 68 [some (va_rf (some a0)), none] [.int p3, va_rf (some a0)]) hw (fun p3 s4 hw => ?_) (fun j5 hj5 hw => ?_)
    · obtain ⟨a8, f9, r10, g11, m12, l13, hw⟩ := hw
      refine z_put hX zc1 (k := 9) dX2_move_68 (Nat.le_of_ble_eq_true rfl) (zlk hX q250) rfl rfl rfl r10 g11 m12 l13 (z_nm (fun s6 e7 => ?_))
      have hw := hw s6 e7
      refine z_aload_n hX dX2_move_71 rfl (i := 0) rfl ?_
      refine z_iconst hX (v := (1 : Int32)) dX2_move_72 (by decide) ?_
      refine z_aload_n hX dX2_move_73 rfl (i := 0) rfl ?_
      obtain ⟨a15, f16, v14, r17, m18, e19, hw⟩ := hw
      refine z_get hX zc1 (k := 8) dX2_move_74 (Nat.le_of_ble_eq_true rfl) (zlk hX q248) r17 m18 e19 ?_
      refine z_isub hX dX2_move_77 ?_
      obtain ⟨a22, f23, r24, g25, m26, l27, hw⟩ := hw
      refine z_put hX zc1 (k := 8) dX2_move_78 (Nat.le_of_ble_eq_true rfl) (zlk hX q248) rfl rfl rfl r24 g25 m26 l27 (z_nm (fun s20 e21 => ?_))
      have hw := hw s20 e21
      refine z_aload_n hX dX2_move_81 rfl (i := 0) rfl ?_
      refine z_dup hX dX2_move_82 (zc_rf _) ?_
      obtain ⟨a29, f30, v28, r31, m32, e33, hw⟩ := hw
      refine z_get hX zc1 (k := 10) dX2_move_83 (Nat.le_of_ble_eq_true rfl) (zlk hX q251) r31 m32 e33 ?_
      refine z_iconst hX (v := (1 : Int32)) dX2_move_86 (by decide) ?_
      refine z_iadd hX dX2_move_87 ?_
      obtain ⟨a36, f37, r38, g39, m40, l41, hw⟩ := hw
      refine z_put hX zc1 (k := 10) dX2_move_88 (Nat.le_of_ble_eq_true rfl) (zlk hX q251) rfl rfl rfl r38 g39 m40 l41 (z_nm (fun s34 e35 => ?_))
      have hw := hw s34 e35
      exact z_return hX hR dX2_move_91 hw
    · refine z_icmp_ne hX dX2_move_55 (tgt := 67) rfl (fun c42 => ?_) (fun c42 => ?_)
      · have hw := hw.1 c42
        refine z_iconst hX (v := (0 : Int32)) dX2_move_67 (by decide) ?_
        refine z_sub (ls' := [some (va_rf (some a0)), none]) (zsS (zsN (zs0))) ?_
        exact hj5 _ _ hw
      · have hw := hw.2 c42
        refine z_aload_n hX dX2_move_58 rfl (i := 0) rfl ?_
        obtain ⟨a44, f45, v43, r46, m47, e48, hw⟩ := hw
        refine z_get hX zc1 (k := 9) dX2_move_59 (Nat.le_of_ble_eq_true rfl) (zlk hX q250) r46 m47 e48 ?_
        refine z_iconst hX (v := (1 : Int32)) dX2_move_62 (by decide) ?_
        refine z_iadd hX dX2_move_63 ?_
        refine z_goto hX dX2_move_64 (tgt := 68) rfl ?_
        refine z_sub (ls' := [some (va_rf (some a0)), none]) (zsS (zsN (zs0))) ?_
        exact hj5 _ _ hw
  · refine z_icmp_eq hX dX2_move_2 (tgt := 52) rfl (fun c49 => ?_) (fun c49 => ?_)
    · have hw := hw.1 c49
      exact hj2  _ hw
    · have hw := hw.2 c49
      refine z_aload_n hX dX2_move_5 rfl (i := 0) rfl ?_
      refine z_dup hX dX2_move_6 (zc_rf _) ?_
      obtain ⟨a51, f52, v50, r53, m54, e55, hw⟩ := hw
      refine z_get hX zc1 (k := 6) dX2_move_7 (Nat.le_of_ble_eq_true rfl) (zlk hX q244) r53 m54 e55 ?_
      refine z_aload_n hX dX2_move_10 rfl (i := 0) rfl ?_
      obtain ⟨a57, f58, v56, r59, m60, e61, hw⟩ := hw
      refine z_get hX zc1 (k := 8) dX2_move_11 (Nat.le_of_ble_eq_true rfl) (zlk hX q248) r59 m60 e61 ?_
      refine zJ_w (P := fun (j : Int32 → zS → Prop) => ∀ (p62 : Int32) (s63 : zS), j p62 s63 → zW X s63 24 [some (va_rf (some a0)), some (.int x1)] [.int p62, .int v50, va_rf (some a0)]) hw (fun p62 s63 hw => ?_) (fun j64 hj64 hw => ?_)
      · refine z_ior hX dX2_move_24 ?_
        obtain ⟨a67, f68, r69, g70, m71, l72, hw⟩ := hw
        refine z_put hX zc1 (k := 6) dX2_move_25 (Nat.le_of_ble_eq_true rfl) (zlk hX q244) rfl rfl rfl r69 g70 m71 l72 (z_nm (fun s65 e66 => ?_))
        have hw := hw s65 e66
        refine z_aload_n hX dX2_move_28 rfl (i := 0) rfl ?_
        refine z_dup hX dX2_move_29 (zc_rf _) ?_
        obtain ⟨a74, f75, v73, r76, m77, e78, hw⟩ := hw
        refine z_get hX zc1 (k := 7) dX2_move_30 (Nat.le_of_ble_eq_true rfl) (zlk hX q246) r76 m77 e78 ?_
        refine z_aload_n hX dX2_move_33 rfl (i := 0) rfl ?_
        obtain ⟨a80, f81, v79, r82, m83, e84, hw⟩ := hw
        refine z_get hX zc1 (k := 8) dX2_move_34 (Nat.le_of_ble_eq_true rfl) (zlk hX q248) r82 m83 e84 ?_
        refine z_iconst hX (v := (1 : Int32)) dX2_move_37 (by decide) ?_
        refine zJ_w (P := fun (j : Int32 → zS → Prop) => ∀ (p85 : Int32) (s86 : zS), j p85 s86 → zW X s86 48 [some (va_rf (some a0)), some (.int x1)] [.int p85, .int v73, va_rf (some a0)]) hw (fun p85 s86 hw => ?_) (fun j87 hj87 hw => ?_)
        · refine z_ior hX dX2_move_48 ?_
          obtain ⟨a90, f91, r92, g93, m94, l95, hw⟩ := hw
          refine z_put hX zc1 (k := 7) dX2_move_49 (Nat.le_of_ble_eq_true rfl) (zlk hX q246) rfl rfl rfl r92 g93 m94 l95 (z_nm (fun s88 e89 => ?_))
          have hw := hw s88 e89
          exact hj2  _ hw
        · refine z_icmp_ne hX dX2_move_38 (tgt := 47) rfl (fun c96 => ?_) (fun c96 => ?_)
          · have hw := hw.1 c96
            refine z_iconst hX (v := (0 : Int32)) dX2_move_47 (by decide) ?_
            exact hj87 _ _ hw
          · have hw := hw.2 c96
            refine z_iconst hX (v := (1 : Int32)) dX2_move_41 (by decide) ?_
            refine z_iload_n hX dX2_move_42 rfl (i := 1) rfl ?_
            refine z_ishl hX dX2_move_43 ?_
            refine z_goto hX dX2_move_44 (tgt := 48) rfl ?_
            exact hj87 _ _ hw
      · refine z_if_ne hX dX2_move_14 (tgt := 23) rfl (fun c97 => ?_) (fun c97 => ?_)
        · have hw := hw.1 c97
          refine z_iconst hX (v := (0 : Int32)) dX2_move_23 (by decide) ?_
          exact hj64 _ _ hw
        · have hw := hw.2 c97
          refine z_iconst hX (v := (1 : Int32)) dX2_move_17 (by decide) ?_
          refine z_iload_n hX dX2_move_18 rfl (i := 1) rfl ?_
          refine z_ishl hX dX2_move_19 ?_
          refine z_goto hX dX2_move_20 (tgt := 24) rfl ?_
          exact hj64 _ _ hw
abbrev cX2_begin : ByteArray := prog_20_method_27_code
def yX2_begin : MethodName := ⟨RX2, "begin", "()V"⟩
def dkwX2_begin_1 : List UInt8 := [181, 0, 64, 177]
abbrev dktX2_begin_1 : List UInt8 := dkwX2_begin_1 ++ []
def dkwX2_begin_0 : List UInt8 := [42, 3, 181, 0, 52, 42, 3, 181, 0, 55, 42, 3, 181, 0, 58, 42, 3, 181, 0, 61, 42, 3]
abbrev dktX2_begin_0 : List UInt8 := dkwX2_begin_0 ++ dktX2_begin_1
theorem dksX2_begin_0 : cX2_begin.data.toList.drop 0 = dktX2_begin_0 := by decide +kernel
theorem dksX2_begin_1 : cX2_begin.data.toList.drop 22 = dktX2_begin_1 := dk_seg dksX2_begin_0 22 rfl rfl
theorem dX2_begin_0 : decode cX2_begin 0 = .ok (.aload_n 0, 1) := dk_42 (dk_at dksX2_begin_0 0 rfl rfl)
theorem dX2_begin_1 : decode cX2_begin 1 = .ok (.iconst 0, 1) := dk_3 (dk_at dksX2_begin_0 1 rfl rfl)
theorem dX2_begin_2 : decode cX2_begin 2 = .ok (.putfield 52, 3) := dk_181 0 52 (dk_at dksX2_begin_0 2 rfl rfl)
theorem dX2_begin_5 : decode cX2_begin 5 = .ok (.aload_n 0, 1) := dk_42 (dk_at dksX2_begin_0 5 rfl rfl)
theorem dX2_begin_6 : decode cX2_begin 6 = .ok (.iconst 0, 1) := dk_3 (dk_at dksX2_begin_0 6 rfl rfl)
theorem dX2_begin_7 : decode cX2_begin 7 = .ok (.putfield 55, 3) := dk_181 0 55 (dk_at dksX2_begin_0 7 rfl rfl)
theorem dX2_begin_10 : decode cX2_begin 10 = .ok (.aload_n 0, 1) := dk_42 (dk_at dksX2_begin_0 10 rfl rfl)
theorem dX2_begin_11 : decode cX2_begin 11 = .ok (.iconst 0, 1) := dk_3 (dk_at dksX2_begin_0 11 rfl rfl)
theorem dX2_begin_12 : decode cX2_begin 12 = .ok (.putfield 58, 3) := dk_181 0 58 (dk_at dksX2_begin_0 12 rfl rfl)
theorem dX2_begin_15 : decode cX2_begin 15 = .ok (.aload_n 0, 1) := dk_42 (dk_at dksX2_begin_0 15 rfl rfl)
theorem dX2_begin_16 : decode cX2_begin 16 = .ok (.iconst 0, 1) := dk_3 (dk_at dksX2_begin_0 16 rfl rfl)
theorem dX2_begin_17 : decode cX2_begin 17 = .ok (.putfield 61, 3) := dk_181 0 61 (dk_at dksX2_begin_0 17 rfl rfl)
theorem dX2_begin_20 : decode cX2_begin 20 = .ok (.aload_n 0, 1) := dk_42 (dk_at dksX2_begin_0 20 rfl rfl)
theorem dX2_begin_21 : decode cX2_begin 21 = .ok (.iconst 0, 1) := dk_3 (dk_at dksX2_begin_0 21 rfl rfl)
theorem dX2_begin_22 : decode cX2_begin 22 = .ok (.putfield 64, 3) := dk_181 0 64 (dk_at dksX2_begin_1 0 rfl rfl)
theorem dX2_begin_25 : decode cX2_begin 25 = .ok (.return_, 1) := dk_177 (dk_at dksX2_begin_1 3 rfl rfl)
/-- PackingDuel$State.begin()V -/
def zb107 (G : zPg) (C : zO) (args : List Value) (Q : zQ) (Y : zY) (σ : zS) : Prop := ∃ (a0 : Nat), args = [.ref a0] ∧ (zput σ G.1 (some a0) 1 6 (.int (0 : Int32)) (fun s1 => zput s1 G.1 (some a0) 1 7 (.int (0 : Int32)) (fun s9 => zput s9 G.1 (some a0) 1 8 (.int (0 : Int32)) (fun s17 => zput s17 G.1 (some a0) 1 9 (.int (0 : Int32)) (fun s25 => zput s25 G.1 (some a0) 1 10 (.int (0 : Int32)) (fun s33 => Q none s33))))))
set_option maxHeartbeats 4000000 in
theorem wk107 {l : Launch} {g : zG} {d : Nat} {C : zO} (hG : zGk g) (hC : zSound l g d C) {args : List Value} {Q : zQ} {Y : zY} {σ : zS} (hw : zb107 (zpg g) C args Q Y σ) : zMet l g (d + 1) (⟨"PackingDuel$State", "begin", "()V"⟩, Cond.code ⟨"PackingDuel$State", "begin", "()V"⟩ prog_20_method_27_code 1 (Option.none : Option FieldType)) args σ Q Y := by
  obtain ⟨a0, rfl, hw⟩ := hw
  refine zof hG (by decide +kernel) [false] ⟨rfl, trivial⟩ (Nat.le_of_ble_eq_true rfl) (ls := [some (va_rf (some a0))]) rfl ?_
  intro X hX hR hTb hd1 hd2 hl hg hnm
  subst hl
  subst hg
  have hd : zDep X d := ⟨hd1, hd2⟩
  refine z_aload_n hX dX2_begin_0 rfl (i := 0) rfl ?_
  refine z_iconst hX (v := (0 : Int32)) dX2_begin_1 (by decide) ?_
  obtain ⟨a3, f4, r5, g6, m7, l8, hw⟩ := hw
  refine z_put hX zc1 (k := 6) dX2_begin_2 (Nat.le_of_ble_eq_true rfl) (zlk hX q244) rfl rfl rfl r5 g6 m7 l8 (z_nm (fun s1 e2 => ?_))
  have hw := hw s1 e2
  refine z_aload_n hX dX2_begin_5 rfl (i := 0) rfl ?_
  refine z_iconst hX (v := (0 : Int32)) dX2_begin_6 (by decide) ?_
  obtain ⟨a11, f12, r13, g14, m15, l16, hw⟩ := hw
  refine z_put hX zc1 (k := 7) dX2_begin_7 (Nat.le_of_ble_eq_true rfl) (zlk hX q246) rfl rfl rfl r13 g14 m15 l16 (z_nm (fun s9 e10 => ?_))
  have hw := hw s9 e10
  refine z_aload_n hX dX2_begin_10 rfl (i := 0) rfl ?_
  refine z_iconst hX (v := (0 : Int32)) dX2_begin_11 (by decide) ?_
  obtain ⟨a19, f20, r21, g22, m23, l24, hw⟩ := hw
  refine z_put hX zc1 (k := 8) dX2_begin_12 (Nat.le_of_ble_eq_true rfl) (zlk hX q248) rfl rfl rfl r21 g22 m23 l24 (z_nm (fun s17 e18 => ?_))
  have hw := hw s17 e18
  refine z_aload_n hX dX2_begin_15 rfl (i := 0) rfl ?_
  refine z_iconst hX (v := (0 : Int32)) dX2_begin_16 (by decide) ?_
  obtain ⟨a27, f28, r29, g30, m31, l32, hw⟩ := hw
  refine z_put hX zc1 (k := 9) dX2_begin_17 (Nat.le_of_ble_eq_true rfl) (zlk hX q250) rfl rfl rfl r29 g30 m31 l32 (z_nm (fun s25 e26 => ?_))
  have hw := hw s25 e26
  refine z_aload_n hX dX2_begin_20 rfl (i := 0) rfl ?_
  refine z_iconst hX (v := (0 : Int32)) dX2_begin_21 (by decide) ?_
  obtain ⟨a35, f36, r37, g38, m39, l40, hw⟩ := hw
  refine z_put hX zc1 (k := 10) dX2_begin_22 (Nat.le_of_ble_eq_true rfl) (zlk hX q251) rfl rfl rfl r37 g38 m39 l40 (z_nm (fun s33 e34 => ?_))
  have hw := hw s33 e34
  exact z_return hX hR dX2_begin_25 hw
abbrev cX2_list : ByteArray := prog_20_method_19_code
def yX2_list : MethodName := ⟨RX2, "list", "(Z)Ljava/util/ArrayList;"⟩
def dkwX2_list_0 : List UInt8 := [27, 153, 0, 10, 42, 180, 0, 18, 167, 0, 7, 42, 180, 0, 21, 176]
abbrev dktX2_list_0 : List UInt8 := dkwX2_list_0 ++ []
theorem dksX2_list_0 : cX2_list.data.toList.drop 0 = dktX2_list_0 := by decide +kernel
theorem dX2_list_0 : decode cX2_list 0 = .ok (.iload_n 1, 1) := dk_27 (dk_at dksX2_list_0 0 rfl rfl)
theorem dX2_list_1 : decode cX2_list 1 = .ok (.ifCond .eq 10, 3) := dk_153 0 10 (dk_at dksX2_list_0 1 rfl rfl)
theorem dX2_list_4 : decode cX2_list 4 = .ok (.aload_n 0, 1) := dk_42 (dk_at dksX2_list_0 4 rfl rfl)
theorem dX2_list_5 : decode cX2_list 5 = .ok (.getfield 18, 3) := dk_180 0 18 (dk_at dksX2_list_0 5 rfl rfl)
theorem dX2_list_8 : decode cX2_list 8 = .ok (.goto 7, 3) := dk_167 0 7 (dk_at dksX2_list_0 8 rfl rfl)
theorem dX2_list_11 : decode cX2_list 11 = .ok (.aload_n 0, 1) := dk_42 (dk_at dksX2_list_0 11 rfl rfl)
theorem dX2_list_12 : decode cX2_list 12 = .ok (.getfield 21, 3) := dk_180 0 21 (dk_at dksX2_list_0 12 rfl rfl)
theorem dX2_list_15 : decode cX2_list 15 = .ok (.areturn, 1) := dk_176 (dk_at dksX2_list_0 15 rfl rfl)
/-- PackingDuel$State.list(Z)Ljava/util/ArrayList; -/
def zb108 (G : zPg) (C : zO) (args : List Value) (Q : zQ) (Y : zY) (σ : zS) : Prop := ∃ (a0 : Nat) (x1 : Int32), args = [.ref a0, .int x1] ∧ (zJ (fun (p1 : Option Nat) (s2 : zS) => Q (some (va_rf p1)) s2) (fun (j3 : Option Nat → zS → Prop) => ((x1 = 0) → zgR σ (some a0) 1 2 (fun v5 => j3 v5 σ)) ∧ ((¬ x1 = 0) → zgR σ (some a0) 1 1 (fun v11 => j3 v11 σ))))
set_option maxHeartbeats 4000000 in
theorem wk108 {l : Launch} {g : zG} {d : Nat} {C : zO} (hG : zGk g) (hC : zSound l g d C) {args : List Value} {Q : zQ} {Y : zY} {σ : zS} (hw : zb108 (zpg g) C args Q Y σ) : zMet l g (d + 1) (⟨"PackingDuel$State", "list", "(Z)Ljava/util/ArrayList;"⟩, Cond.code ⟨"PackingDuel$State", "list", "(Z)Ljava/util/ArrayList;"⟩ prog_20_method_19_code 2 (Option.some (FieldType.object "java/util/ArrayList"))) args σ Q Y := by
  obtain ⟨a0, x1, rfl, hw⟩ := hw
  refine zof hG (by decide +kernel) [false, false] ⟨rfl, rfl, trivial⟩ (Nat.le_of_ble_eq_true rfl) (ls := [some (va_rf (some a0)), some (.int x1)]) rfl ?_
  intro X hX hR hTb hd1 hd2 hl hg hnm
  subst hl
  subst hg
  have hd : zDep X d := ⟨hd1, hd2⟩
  refine z_iload_n hX dX2_list_0 rfl (i := 1) rfl ?_
  refine zJ_w (P := fun (j : Option Nat → zS → Prop) => ∀ (p1 : Option Nat) (s2 : zS), j p1 s2 → zW X s2 15 [none, none] [va_rf p1]) hw (fun p1 s2 hw => ?_) (fun j3 hj3 hw => ?_)
  · exact z_areturn hX hR dX2_list_15 (Or.inl ⟨_, rfl⟩) hw
  · refine z_if_eq hX dX2_list_1 (tgt := 11) rfl (fun c4 => ?_) (fun c4 => ?_)
    · have hw := hw.1 c4
      refine z_aload_n hX dX2_list_11 rfl (i := 0) rfl ?_
      obtain ⟨a6, f7, v5, r8, m9, e10, hw⟩ := hw
      refine z_get hX zc1 (k := 2) dX2_list_12 (Nat.le_of_ble_eq_true rfl) (zlk hX q231) r8 m9 e10 ?_
      refine z_sub (ls' := [none, none]) (zsN (zsN (zs0))) ?_
      exact hj3 _ _ hw
    · have hw := hw.2 c4
      refine z_aload_n hX dX2_list_4 rfl (i := 0) rfl ?_
      obtain ⟨a12, f13, v11, r14, m15, e16, hw⟩ := hw
      refine z_get hX zc1 (k := 1) dX2_list_5 (Nat.le_of_ble_eq_true rfl) (zlk hX q229) r14 m15 e16 ?_
      refine z_goto hX dX2_list_8 (tgt := 15) rfl ?_
      refine z_sub (ls' := [none, none]) (zsN (zsN (zs0))) ?_
      exact hj3 _ _ hw
abbrev cX2_isSet : ByteArray := prog_20_method_5_code
def yX2_isSet : MethodName := ⟨RX2, "isSet", "(I)Z"⟩
def dkwX2_isSet_0 : List UInt8 := [27, 133, 9, 42, 182, 0, 80, 182, 0, 83, 4, 100, 133, 184, 0, 86, 172]
abbrev dktX2_isSet_0 : List UInt8 := dkwX2_isSet_0 ++ []
theorem dksX2_isSet_0 : cX2_isSet.data.toList.drop 0 = dktX2_isSet_0 := by decide +kernel
theorem dX2_isSet_0 : decode cX2_isSet 0 = .ok (.iload_n 1, 1) := dk_27 (dk_at dksX2_isSet_0 0 rfl rfl)
theorem dX2_isSet_1 : decode cX2_isSet 1 = .ok (.i2l, 1) := dk_133 (dk_at dksX2_isSet_0 1 rfl rfl)
theorem dX2_isSet_2 : decode cX2_isSet 2 = .ok (.lconst 0, 1) := dk_9 (dk_at dksX2_isSet_0 2 rfl rfl)
theorem dX2_isSet_3 : decode cX2_isSet 3 = .ok (.aload_n 0, 1) := dk_42 (dk_at dksX2_isSet_0 3 rfl rfl)
theorem dX2_isSet_4 : decode cX2_isSet 4 = .ok (.invokevirtual 80, 3) := dk_182 0 80 (dk_at dksX2_isSet_0 4 rfl rfl)
theorem dX2_isSet_7 : decode cX2_isSet 7 = .ok (.invokevirtual 83, 3) := dk_182 0 83 (dk_at dksX2_isSet_0 7 rfl rfl)
theorem dX2_isSet_10 : decode cX2_isSet 10 = .ok (.iconst 1, 1) := dk_4 (dk_at dksX2_isSet_0 10 rfl rfl)
theorem dX2_isSet_11 : decode cX2_isSet 11 = .ok (.isub, 1) := dk_100 (dk_at dksX2_isSet_0 11 rfl rfl)
theorem dX2_isSet_12 : decode cX2_isSet 12 = .ok (.i2l, 1) := dk_133 (dk_at dksX2_isSet_0 12 rfl rfl)
theorem dX2_isSet_13 : decode cX2_isSet 13 = .ok (.invokestatic 86, 3) := dk_184 0 86 (dk_at dksX2_isSet_0 13 rfl rfl)
theorem dX2_isSet_16 : decode cX2_isSet 16 = .ok (.ireturn, 1) := dk_172 (dk_at dksX2_isSet_0 16 rfl rfl)
/-- PackingDuel$State.isSet(I)Z -/
def zb109 (G : zPg) (C : zO) (args : List Value) (Q : zQ) (Y : zY) (σ : zS) : Prop := ∃ (a0 : Nat) (x1 : Int32), args = [.ref a0, .int x1] ∧ (zrc σ (some a0) 1 (fun a4 => zcl C 83 [.ref a4] Y σ (zqR (fun v1 s2 => zrc s2 v1 14 (fun a11 => zcl C 452 [.ref a11] Y s2 (zqI (fun v8 s9 => zcl C 48 [.long x1.toInt64, .long (0 : Int64), .long ((v8 - (1 : Int32)).toInt64)] Y s9 (zqI (fun v15 s16 => zbool v15 ∧ Q (some (.int v15)) s16)))))))))
set_option maxHeartbeats 4000000 in
theorem wk109 {l : Launch} {g : zG} {d : Nat} {C : zO} (hG : zGk g) (hC : zSound l g d C) {args : List Value} {Q : zQ} {Y : zY} {σ : zS} (hw : zb109 (zpg g) C args Q Y σ) : zMet l g (d + 1) (⟨"PackingDuel$State", "isSet", "(I)Z"⟩, Cond.code ⟨"PackingDuel$State", "isSet", "(I)Z"⟩ prog_20_method_5_code 2 (Option.some FieldType.boolean)) args σ Q Y := by
  obtain ⟨a0, x1, rfl, hw⟩ := hw
  refine zof hG (by decide +kernel) [false, false] ⟨rfl, rfl, trivial⟩ (Nat.le_of_ble_eq_true rfl) (ls := [some (va_rf (some a0)), some (.int x1)]) rfl ?_
  intro X hX hR hTb hd1 hd2 hl hg hnm
  subst hl
  subst hg
  have hd : zDep X d := ⟨hd1, hd2⟩
  refine z_iload_n hX dX2_isSet_0 rfl (i := 1) rfl ?_
  refine z_i2l hX dX2_isSet_1 ?_
  refine z_lconst hX (v := (0 : Int64)) dX2_isSet_2 (by decide) ?_
  refine z_aload_n hX dX2_isSet_3 rfl (i := 0) rfl ?_
  obtain ⟨a4, f5, r6, m7, hw⟩ := hw
  refine z_invV hX hd r6 (ci := 1) rfl rfl m7 dX2_isSet_4 (hC 83 _ zm83 _ _ _ _ hw) q351 q352 q353 zh2 q354 q131 zn83 rfl (Nat.le_of_ble_eq_true rfl) (st := [.long (0 : Int64), .long x1.toInt64]) rfl (zcs8 (Nat.le_of_ble_eq_true rfl)) rfl (zkR (fun v1 s2 hw => ?_)) (zout hX hR hTb)
  obtain ⟨a11, f12, r13, m14, hw⟩ := hw
  refine z_invV hX hd r13 (ci := 14) rfl rfl m14 dX2_isSet_7 (hC 452 _ zm452 _ _ _ _ hw) q395 q396 q397 zh30 q398 q161 zn452 rfl (Nat.le_of_ble_eq_true rfl) (st := [.long (0 : Int64), .long x1.toInt64]) rfl (zcs8 (Nat.le_of_ble_eq_true rfl)) rfl (zkI (fun v8 s9 hw => ?_)) (zout hX hR hTb)
  refine z_iconst hX (v := (1 : Int32)) dX2_isSet_10 (by decide) ?_
  refine z_isub hX dX2_isSet_11 ?_
  refine z_i2l hX dX2_isSet_12 ?_
  refine z_invSN hX hd dX2_isSet_13 (hC 48 _ zm48 _ _ _ _ hw) q1669 q1015 zh1 q1016 q130 zn48 rfl (Nat.le_of_ble_eq_true rfl) (st := []) rfl (zcs8 (Nat.le_of_ble_eq_true rfl)) rfl (zkI (fun v15 s16 hw => ?_)) (zout hX hR hTb)
  exact z_ireturn hX hR dX2_isSet_16 (zn_z hw.1) hw.2
abbrev cX2_ranked : ByteArray := prog_20_method_15_code
def yX2_ranked : MethodName := ⟨RX2, "ranked", "(I)I"⟩
def dkwX2_ranked_4 : List UInt8 := [172]
abbrev dktX2_ranked_4 : List UInt8 := dkwX2_ranked_4 ++ []
def dkwX2_ranked_3 : List UInt8 := [182, 0, 151, 192, 0, 142, 58, 4, 132, 3, 1, 167, 255, 239, 44, 182, 0, 151, 192, 0, 142, 180, 0, 155]
abbrev dktX2_ranked_3 : List UInt8 := dkwX2_ranked_3 ++ dktX2_ranked_4
def dkwX2_ranked_2 : List UInt8 := [182, 0, 144, 183, 0, 147, 182, 0, 150, 87, 132, 3, 1, 167, 255, 216, 3, 62, 29, 27, 162, 0, 18, 44]
abbrev dktX2_ranked_2 : List UInt8 := dkwX2_ranked_2 ++ dktX2_ranked_3
def dkwX2_ranked_1 : List UInt8 := [182, 0, 83, 162, 0, 35, 42, 29, 182, 0, 111, 153, 0, 21, 44, 187, 0, 142, 89, 29, 42, 29]
abbrev dktX2_ranked_1 : List UInt8 := dkwX2_ranked_1 ++ dktX2_ranked_2
def dkwX2_ranked_0 : List UInt8 := [187, 0, 134, 89, 187, 0, 136, 89, 183, 0, 138, 183, 0, 139, 77, 3, 62, 29, 42, 182, 0, 80]
abbrev dktX2_ranked_0 : List UInt8 := dkwX2_ranked_0 ++ dktX2_ranked_1
theorem dksX2_ranked_0 : cX2_ranked.data.toList.drop 0 = dktX2_ranked_0 := by decide +kernel
theorem dksX2_ranked_1 : cX2_ranked.data.toList.drop 22 = dktX2_ranked_1 := dk_seg dksX2_ranked_0 22 rfl rfl
theorem dksX2_ranked_2 : cX2_ranked.data.toList.drop 44 = dktX2_ranked_2 := dk_seg dksX2_ranked_1 22 rfl rfl
theorem dksX2_ranked_3 : cX2_ranked.data.toList.drop 68 = dktX2_ranked_3 := dk_seg dksX2_ranked_2 24 rfl rfl
theorem dksX2_ranked_4 : cX2_ranked.data.toList.drop 92 = dktX2_ranked_4 := dk_seg dksX2_ranked_3 24 rfl rfl
theorem dX2_ranked_0 : decode cX2_ranked 0 = .ok (.new 134, 3) := dk_187 0 134 (dk_at dksX2_ranked_0 0 rfl rfl)
theorem dX2_ranked_3 : decode cX2_ranked 3 = .ok (.dup, 1) := dk_89 (dk_at dksX2_ranked_0 3 rfl rfl)
theorem dX2_ranked_4 : decode cX2_ranked 4 = .ok (.new 136, 3) := dk_187 0 136 (dk_at dksX2_ranked_0 4 rfl rfl)
theorem dX2_ranked_7 : decode cX2_ranked 7 = .ok (.dup, 1) := dk_89 (dk_at dksX2_ranked_0 7 rfl rfl)
theorem dX2_ranked_8 : decode cX2_ranked 8 = .ok (.invokespecial 138, 3) := dk_183 0 138 (dk_at dksX2_ranked_0 8 rfl rfl)
theorem dX2_ranked_11 : decode cX2_ranked 11 = .ok (.invokespecial 139, 3) := dk_183 0 139 (dk_at dksX2_ranked_0 11 rfl rfl)
theorem dX2_ranked_14 : decode cX2_ranked 14 = .ok (.astore_n 2, 1) := dk_77 (dk_at dksX2_ranked_0 14 rfl rfl)
theorem dX2_ranked_15 : decode cX2_ranked 15 = .ok (.iconst 0, 1) := dk_3 (dk_at dksX2_ranked_0 15 rfl rfl)
theorem dX2_ranked_16 : decode cX2_ranked 16 = .ok (.istore_n 3, 1) := dk_62 (dk_at dksX2_ranked_0 16 rfl rfl)
theorem dX2_ranked_17 : decode cX2_ranked 17 = .ok (.iload_n 3, 1) := dk_29 (dk_at dksX2_ranked_0 17 rfl rfl)
theorem dX2_ranked_18 : decode cX2_ranked 18 = .ok (.aload_n 0, 1) := dk_42 (dk_at dksX2_ranked_0 18 rfl rfl)
theorem dX2_ranked_19 : decode cX2_ranked 19 = .ok (.invokevirtual 80, 3) := dk_182 0 80 (dk_at dksX2_ranked_0 19 rfl rfl)
theorem dX2_ranked_22 : decode cX2_ranked 22 = .ok (.invokevirtual 83, 3) := dk_182 0 83 (dk_at dksX2_ranked_1 0 rfl rfl)
theorem dX2_ranked_25 : decode cX2_ranked 25 = .ok (.if_icmp .ge 35, 3) := dk_162 0 35 (dk_at dksX2_ranked_1 3 rfl rfl)
theorem dX2_ranked_28 : decode cX2_ranked 28 = .ok (.aload_n 0, 1) := dk_42 (dk_at dksX2_ranked_1 6 rfl rfl)
theorem dX2_ranked_29 : decode cX2_ranked 29 = .ok (.iload_n 3, 1) := dk_29 (dk_at dksX2_ranked_1 7 rfl rfl)
theorem dX2_ranked_30 : decode cX2_ranked 30 = .ok (.invokevirtual 111, 3) := dk_182 0 111 (dk_at dksX2_ranked_1 8 rfl rfl)
theorem dX2_ranked_33 : decode cX2_ranked 33 = .ok (.ifCond .eq 21, 3) := dk_153 0 21 (dk_at dksX2_ranked_1 11 rfl rfl)
theorem dX2_ranked_36 : decode cX2_ranked 36 = .ok (.aload_n 2, 1) := dk_44 (dk_at dksX2_ranked_1 14 rfl rfl)
theorem dX2_ranked_37 : decode cX2_ranked 37 = .ok (.new 142, 3) := dk_187 0 142 (dk_at dksX2_ranked_1 15 rfl rfl)
theorem dX2_ranked_40 : decode cX2_ranked 40 = .ok (.dup, 1) := dk_89 (dk_at dksX2_ranked_1 18 rfl rfl)
theorem dX2_ranked_41 : decode cX2_ranked 41 = .ok (.iload_n 3, 1) := dk_29 (dk_at dksX2_ranked_1 19 rfl rfl)
theorem dX2_ranked_42 : decode cX2_ranked 42 = .ok (.aload_n 0, 1) := dk_42 (dk_at dksX2_ranked_1 20 rfl rfl)
theorem dX2_ranked_43 : decode cX2_ranked 43 = .ok (.iload_n 3, 1) := dk_29 (dk_at dksX2_ranked_1 21 rfl rfl)
theorem dX2_ranked_44 : decode cX2_ranked 44 = .ok (.invokevirtual 144, 3) := dk_182 0 144 (dk_at dksX2_ranked_2 0 rfl rfl)
theorem dX2_ranked_47 : decode cX2_ranked 47 = .ok (.invokespecial 147, 3) := dk_183 0 147 (dk_at dksX2_ranked_2 3 rfl rfl)
theorem dX2_ranked_50 : decode cX2_ranked 50 = .ok (.invokevirtual 150, 3) := dk_182 0 150 (dk_at dksX2_ranked_2 6 rfl rfl)
theorem dX2_ranked_53 : decode cX2_ranked 53 = .ok (.pop, 1) := dk_87 (dk_at dksX2_ranked_2 9 rfl rfl)
theorem dX2_ranked_54 : decode cX2_ranked 54 = .ok (.iinc 3 1, 3) := dk_132 3 1 (dk_at dksX2_ranked_2 10 rfl rfl)
theorem dX2_ranked_57 : decode cX2_ranked 57 = .ok (.goto (-40), 3) := dk_167 255 216 (dk_at dksX2_ranked_2 13 rfl rfl)
theorem dX2_ranked_60 : decode cX2_ranked 60 = .ok (.iconst 0, 1) := dk_3 (dk_at dksX2_ranked_2 16 rfl rfl)
theorem dX2_ranked_61 : decode cX2_ranked 61 = .ok (.istore_n 3, 1) := dk_62 (dk_at dksX2_ranked_2 17 rfl rfl)
theorem dX2_ranked_62 : decode cX2_ranked 62 = .ok (.iload_n 3, 1) := dk_29 (dk_at dksX2_ranked_2 18 rfl rfl)
theorem dX2_ranked_63 : decode cX2_ranked 63 = .ok (.iload_n 1, 1) := dk_27 (dk_at dksX2_ranked_2 19 rfl rfl)
theorem dX2_ranked_64 : decode cX2_ranked 64 = .ok (.if_icmp .ge 18, 3) := dk_162 0 18 (dk_at dksX2_ranked_2 20 rfl rfl)
theorem dX2_ranked_67 : decode cX2_ranked 67 = .ok (.aload_n 2, 1) := dk_44 (dk_at dksX2_ranked_2 23 rfl rfl)
theorem dX2_ranked_68 : decode cX2_ranked 68 = .ok (.invokevirtual 151, 3) := dk_182 0 151 (dk_at dksX2_ranked_3 0 rfl rfl)
theorem dX2_ranked_71 : decode cX2_ranked 71 = .ok (.checkcast 142, 3) := dk_192 0 142 (dk_at dksX2_ranked_3 3 rfl rfl)
theorem dX2_ranked_74 : decode cX2_ranked 74 = .ok (.astore 4, 2) := dk_58 4 (dk_at dksX2_ranked_3 6 rfl rfl)
theorem dX2_ranked_76 : decode cX2_ranked 76 = .ok (.iinc 3 1, 3) := dk_132 3 1 (dk_at dksX2_ranked_3 8 rfl rfl)
theorem dX2_ranked_79 : decode cX2_ranked 79 = .ok (.goto (-17), 3) := dk_167 255 239 (dk_at dksX2_ranked_3 11 rfl rfl)
theorem dX2_ranked_82 : decode cX2_ranked 82 = .ok (.aload_n 2, 1) := dk_44 (dk_at dksX2_ranked_3 14 rfl rfl)
theorem dX2_ranked_83 : decode cX2_ranked 83 = .ok (.invokevirtual 151, 3) := dk_182 0 151 (dk_at dksX2_ranked_3 15 rfl rfl)
theorem dX2_ranked_86 : decode cX2_ranked 86 = .ok (.checkcast 142, 3) := dk_192 0 142 (dk_at dksX2_ranked_3 18 rfl rfl)
theorem dX2_ranked_89 : decode cX2_ranked 89 = .ok (.getfield 155, 3) := dk_180 0 155 (dk_at dksX2_ranked_3 21 rfl rfl)
theorem dX2_ranked_92 : decode cX2_ranked 92 = .ok (.ireturn, 1) := dk_172 (dk_at dksX2_ranked_4 0 rfl rfl)
/-- PackingDuel$State.ranked(I)I -/
def zb110 (G : zPg) (C : zO) (args : List Value) (Q : zQ) (Y : zY) (σ : zS) : Prop := ∃ (a0 : Nat) (x1 : Int32), args = [.ref a0, .int x1] ∧ (znew σ 18 [va_rf none, .int 0, va_rf none, .int 0] 4 (fun s1 => znew s1 19 [] 0 (fun s4 => (∃ a10, (some s1.2.1) = some a10 ∧ zcl C 473 [.ref a10] Y s4 (zqV (fun s8 => (∃ a15, (some σ.2.1) = some a15 ∧ zcl C 462 [.ref a15, va_rf (some s1.2.1)] Y s8 (zqV (fun s13 => ∃ n, zIt (fun _ _ => False) (fun rec19 (p17 : Int32) (s18 : zS) => zrc s18 (some a0) 1 (fun a23 => zcl C 83 [.ref a23] Y s18 (zqR (fun v20 s21 => zrc s21 v20 14 (fun a30 => zcl C 452 [.ref a30] Y s21 (zqI (fun v27 s28 => ((v27 ≤ p17) → ∃ n, zIt (fun _ _ => False) (fun rec37 (p35 : Int32) (s36 : zS) => ((x1 ≤ p35) → zrc s36 (some σ.2.1) 18 (fun a42 => zcl C 470 [.ref a42] Y s36 (zqR (fun v39 s40 => (zcst s40 v39 [20] ∧ zgI s40 v39 20 0 (fun v46 => Q (some (.int v46)) s40)))))) ∧ ((¬ x1 ≤ p35) → zrc s36 (some σ.2.1) 18 (fun a55 => zcl C 470 [.ref a55] Y s36 (zqR (fun v52 s53 => (zcst s53 v52 [20] ∧ (∀ v59 : Int32, v59 = p35 + (1 : Int32) → rec37 v59 s53))))))) n (0 : Int32) s28) ∧ ((¬ v27 ≤ p17) → zrc s28 (some a0) 1 (fun a65 => zcl C 84 [.ref a65, .int p17] Y s28 (zqI (fun v62 s63 => zJ (fun  (s69 : zS) => (∀ v71 : Int32, v71 = p17 + (1 : Int32) → rec19 v71 s69)) (fun (j70 : zS → Prop) => ((v62 = 0) → j70 s63) ∧ ((¬ v62 = 0) → znew s63 20 [.int 0, .int 0] 2 (fun s74 => zrc s74 (some a0) 1 (fun a80 => zcl C 102 [.ref a80, .int p17] Y s74 (zqI (fun v77 s78 => (∃ a87, (some s63.2.1) = some a87 ∧ zcl C 476 [.ref a87, .int p17, .int v77] Y s78 (zqV (fun s85 => zrc s85 (some σ.2.1) 18 (fun a92 => zcl C 464 [.ref a92, va_rf (some s63.2.1)] Y s85 (zqI (fun v89 s90 => j70 s90))))))))))))))))))))))) n (0 : Int32) s13)))))))))
set_option maxHeartbeats 4000000 in
theorem wk110 {l : Launch} {g : zG} {d : Nat} {C : zO} (hG : zGk g) (hC : zSound l g d C) {args : List Value} {Q : zQ} {Y : zY} {σ : zS} (hw : zb110 (zpg g) C args Q Y σ) : zMet l g (d + 1) (⟨"PackingDuel$State", "ranked", "(I)I"⟩, Cond.code ⟨"PackingDuel$State", "ranked", "(I)I"⟩ prog_20_method_15_code 5 (Option.some FieldType.int)) args σ Q Y := by
  obtain ⟨a0, x1, rfl, hw⟩ := hw
  refine zof hG (by decide +kernel) [false, false] ⟨rfl, rfl, trivial⟩ (Nat.le_of_ble_eq_true rfl) (ls := [some (va_rf (some a0)), some (.int x1), none, none, none]) rfl ?_
  intro X hX hR hTb hd1 hd2 hl hg hnm
  subst hl
  subst hg
  have hd : zDep X d := ⟨hd1, hd2⟩
  refine z_new hX zc18 dX2_ranked_0 q1699 q1700 q169 (fs := [va_rf none, .int 0, va_rf none, .int 0]) (fun j hj => by have hj : j < 4 := hj; exact zdf18 j hj) hw.1 hw.2.1 (fun z2 => z_nm (fun s1 e3 => ?_))
  have hw := hw.2.2 z2 s1 e3
  refine z_dup hX dX2_ranked_3 (zc_rf _) ?_
  refine z_new hX zc19 dX2_ranked_4 q1701 q1702 q170 (fs := []) (fun j hj => absurd hj (Nat.not_lt_zero _)) hw.1 hw.2.1 (fun z5 => z_nm (fun s4 e6 => ?_))
  have hw := hw.2.2 z5 s4 e6
  refine z_dup hX dX2_ranked_7 (zc_rf _) ?_
  obtain ⟨a10, r11, hw⟩ := hw
  refine z_invIN hX hd r11 dX2_ranked_8 (hC 473 _ zm473 _ _ _ _ hw) q1703 q1704 rfl zh38 q1705 q170 zn473 rfl (Nat.le_of_ble_eq_true rfl) (st := [va_rf (some s1.2.1), va_rf (some σ.2.1), va_rf (some σ.2.1)]) rfl (zcs8 (Nat.le_of_ble_eq_true rfl)) rfl (zkV (fun s8 hw => ?_)) (zout hX hR hTb)
  obtain ⟨a15, r16, hw⟩ := hw
  refine z_invI hX hd r16 dX2_ranked_11 (hC 462 _ zm462 _ _ _ _ hw) q1708 q1709 rfl zh37 q1710 q169 zn462 rfl (Nat.le_of_ble_eq_true rfl) (st := [va_rf (some σ.2.1)]) rfl (zcs8 (Nat.le_of_ble_eq_true rfl)) rfl (zkV (fun s13 hw => ?_)) (zout hX hR hTb)
  refine z_astore_n hX dX2_ranked_14 rfl (i := 2) (Nat.le_of_ble_eq_true rfl) rfl (ls2 := [some (va_rf (some a0)), some (.int x1), some (va_rf (some σ.2.1)), none, none]) rfl ?_
  refine z_iconst hX (v := (0 : Int32)) dX2_ranked_15 (by decide) ?_
  refine z_istore_n hX dX2_ranked_16 rfl (i := 3) (Nat.le_of_ble_eq_true rfl) (zc_rf _) (ls2 := [some (va_rf (some a0)), some (.int x1), some (va_rf (some σ.2.1)), some (.int (0 : Int32)), none]) rfl ?_
  obtain ⟨n96, hw⟩ := hw
  refine zIt_w (P := fun (j : Int32 → zS → Prop) => ∀ (p17 : Int32) (s18 : zS), j p17 s18 → zW X s18 17 [some (va_rf (some a0)), some (.int x1), some (va_rf (some σ.2.1)), some (.int p17), none] []) (fun _ _ h => h.elim) (fun rec19 hrec19 p17 s18 hw => ?_) n96 _ _ hw
  refine z_iload_n hX dX2_ranked_17 rfl (i := 3) rfl ?_
  refine z_aload_n hX dX2_ranked_18 rfl (i := 0) rfl ?_
  obtain ⟨a23, f24, r25, m26, hw⟩ := hw
  refine z_invV hX hd r25 (ci := 1) rfl rfl m26 dX2_ranked_19 (hC 83 _ zm83 _ _ _ _ hw) q351 q352 q353 zh2 q354 q131 zn83 rfl (Nat.le_of_ble_eq_true rfl) (st := [.int p17]) rfl (zcs8 (Nat.le_of_ble_eq_true rfl)) rfl (zkR (fun v20 s21 hw => ?_)) (zout hX hR hTb)
  obtain ⟨a30, f31, r32, m33, hw⟩ := hw
  refine z_invV hX hd r32 (ci := 14) rfl rfl m33 dX2_ranked_22 (hC 452 _ zm452 _ _ _ _ hw) q395 q396 q397 zh30 q398 q161 zn452 rfl (Nat.le_of_ble_eq_true rfl) (st := [.int p17]) rfl (zcs8 (Nat.le_of_ble_eq_true rfl)) rfl (zkI (fun v27 s28 hw => ?_)) (zout hX hR hTb)
  refine z_icmp_ge hX dX2_ranked_25 (tgt := 60) rfl (fun c34 => ?_) (fun c34 => ?_)
  · have hw := hw.1 c34
    refine z_iconst hX (v := (0 : Int32)) dX2_ranked_60 (by decide) ?_
    refine z_istore_n hX dX2_ranked_61 rfl (i := 3) (Nat.le_of_ble_eq_true rfl) (zc_rf _) (ls2 := [some (va_rf (some a0)), some (.int x1), some (va_rf (some σ.2.1)), some (.int (0 : Int32)), none]) rfl ?_
    obtain ⟨n61, hw⟩ := hw
    refine z_sub (ls' := [none, some (.int x1), some (va_rf (some σ.2.1)), some (.int (0 : Int32)), none]) (zsN (zsS (zsS (zsS (zsN (zs0)))))) ?_
    refine zIt_w (P := fun (j : Int32 → zS → Prop) => ∀ (p35 : Int32) (s36 : zS), j p35 s36 → zW X s36 62 [none, some (.int x1), some (va_rf (some σ.2.1)), some (.int p35), none] []) (fun _ _ h => h.elim) (fun rec37 hrec37 p35 s36 hw => ?_) n61 _ _ hw
    refine z_iload_n hX dX2_ranked_62 rfl (i := 3) rfl ?_
    refine z_iload_n hX dX2_ranked_63 rfl (i := 1) rfl ?_
    refine z_icmp_ge hX dX2_ranked_64 (tgt := 82) rfl (fun c38 => ?_) (fun c38 => ?_)
    · have hw := hw.1 c38
      refine z_aload_n hX dX2_ranked_82 rfl (i := 2) rfl ?_
      obtain ⟨a42, f43, r44, m45, hw⟩ := hw
      refine z_invV hX hd r44 (ci := 18) rfl rfl m45 dX2_ranked_83 (hC 470 _ zm470 _ _ _ _ hw) q2002 q2003 q2004 zh37 q2005 q169 zn470 rfl (Nat.le_of_ble_eq_true rfl) (st := []) rfl (zcs8 (Nat.le_of_ble_eq_true rfl)) rfl (zkR (fun v39 s40 hw => ?_)) (zout hX hR hTb)
      refine z_cast hX dX2_ranked_86 q1734 (zfa1 ⟨_, rfl, Or.inl rfl⟩ (zfa0)) hw.1 ?_
      have hw := hw.2
      obtain ⟨a47, f48, v46, r49, m50, e51, hw⟩ := hw
      refine z_get hX zc20 (k := 0) dX2_ranked_89 (Nat.le_of_ble_eq_true rfl) (zlkN hX "PackingDuel" q1743) r49 m50 e51 ?_
      exact z_ireturn hX hR dX2_ranked_92 rfl hw
    · have hw := hw.2 c38
      refine z_aload_n hX dX2_ranked_67 rfl (i := 2) rfl ?_
      obtain ⟨a55, f56, r57, m58, hw⟩ := hw
      refine z_invV hX hd r57 (ci := 18) rfl rfl m58 dX2_ranked_68 (hC 470 _ zm470 _ _ _ _ hw) q2002 q2003 q2004 zh37 q2005 q169 zn470 rfl (Nat.le_of_ble_eq_true rfl) (st := []) rfl (zcs8 (Nat.le_of_ble_eq_true rfl)) rfl (zkR (fun v52 s53 hw => ?_)) (zout hX hR hTb)
      refine z_cast hX dX2_ranked_71 q1734 (zfa1 ⟨_, rfl, Or.inl rfl⟩ (zfa0)) hw.1 ?_
      have hw := hw.2
      refine z_astore hX dX2_ranked_74 (i := 4) (Nat.le_of_ble_eq_true rfl) rfl (ls2 := [none, some (.int x1), some (va_rf (some σ.2.1)), some (.int p35), some (va_rf v52)]) rfl ?_
      obtain ⟨v59, e60⟩ : ∃ y : Int32, y = p35 + (1 : Int32) := ⟨_, rfl⟩
      refine z_iinc hX dX2_ranked_76 (i := 3) (v := v59) rfl (by rw [e60]; rfl) (Nat.le_of_ble_eq_true rfl) (zc_rf _) (ls2 := [none, some (.int x1), some (va_rf (some σ.2.1)), some (.int v59), some (va_rf v52)]) rfl ?_
      have hw := hw v59 e60
      refine z_goto hX dX2_ranked_79 (tgt := 62) rfl ?_
      refine z_sub (ls' := [none, some (.int x1), some (va_rf (some σ.2.1)), some (.int v59), none]) (zsN (zsS (zsS (zsS (zsN (zs0)))))) ?_
      exact hrec37 _ _ hw
  · have hw := hw.2 c34
    refine z_aload_n hX dX2_ranked_28 rfl (i := 0) rfl ?_
    refine z_iload_n hX dX2_ranked_29 rfl (i := 3) rfl ?_
    obtain ⟨a65, f66, r67, m68, hw⟩ := hw
    refine z_invV hX hd r67 (ci := 1) rfl rfl m68 dX2_ranked_30 (hC 84 _ zm84 _ _ _ _ hw) q399 q400 q401 zh2 q402 q131 zn84 rfl (Nat.le_of_ble_eq_true rfl) (st := []) rfl (zcs8 (Nat.le_of_ble_eq_true rfl)) rfl (zkI (fun v62 s63 hw => ?_)) (zout hX hR hTb)
    refine zJ_w (P := fun (j : zS → Prop) => ∀  (s69 : zS), j  s69 → zW X s69 54 [some (va_rf (some a0)), some (.int x1), some (va_rf (some σ.2.1)), some (.int p17), none] []) hw (fun  s69 hw => ?_) (fun j70 hj70 hw => ?_)
    · obtain ⟨v71, e72⟩ : ∃ y : Int32, y = p17 + (1 : Int32) := ⟨_, rfl⟩
      refine z_iinc hX dX2_ranked_54 (i := 3) (v := v71) rfl (by rw [e72]; rfl) (Nat.le_of_ble_eq_true rfl) (zc_rf _) (ls2 := [some (va_rf (some a0)), some (.int x1), some (va_rf (some σ.2.1)), some (.int v71), none]) rfl ?_
      have hw := hw v71 e72
      refine z_goto hX dX2_ranked_57 (tgt := 17) rfl ?_
      exact hrec19 _ _ hw
    · refine z_if_eq hX dX2_ranked_33 (tgt := 54) rfl (fun c73 => ?_) (fun c73 => ?_)
      · have hw := hw.1 c73
        exact hj70  _ hw
      · have hw := hw.2 c73
        refine z_aload_n hX dX2_ranked_36 rfl (i := 2) rfl ?_
        refine z_new hX zc20 dX2_ranked_37 q1734 q1735 q171 (fs := [.int 0, .int 0]) (fun j hj => by have hj : j < 2 := hj; exact zdf20 j hj) hw.1 hw.2.1 (fun z75 => z_nm (fun s74 e76 => ?_))
        have hw := hw.2.2 z75 s74 e76
        refine z_dup hX dX2_ranked_40 (zc_rf _) ?_
        refine z_iload_n hX dX2_ranked_41 rfl (i := 3) rfl ?_
        refine z_aload_n hX dX2_ranked_42 rfl (i := 0) rfl ?_
        refine z_iload_n hX dX2_ranked_43 rfl (i := 3) rfl ?_
        obtain ⟨a80, f81, r82, m83, hw⟩ := hw
        refine z_invV hX hd r82 (ci := 1) rfl rfl m83 dX2_ranked_44 (hC 102 _ zm102 _ _ _ _ hw) q1736 q738 q739 zh2 q740 q131 zn102 rfl (Nat.le_of_ble_eq_true rfl) (st := [.int p17, va_rf (some s63.2.1), va_rf (some s63.2.1), va_rf (some σ.2.1)]) rfl (zcs8 (Nat.le_of_ble_eq_true rfl)) rfl (zkI (fun v77 s78 hw => ?_)) (zout hX hR hTb)
        obtain ⟨a87, r88, hw⟩ := hw
        refine z_invI hX hd r88 dX2_ranked_47 (hC 476 _ zm476 _ _ _ _ hw) q1737 q1738 rfl zh39 q1739 q171 zn476 rfl (Nat.le_of_ble_eq_true rfl) (st := [va_rf (some s63.2.1), va_rf (some σ.2.1)]) rfl (zcs8 (Nat.le_of_ble_eq_true rfl)) rfl (zkV (fun s85 hw => ?_)) (zout hX hR hTb)
        obtain ⟨a92, f93, r94, m95, hw⟩ := hw
        refine z_invV hX hd r94 (ci := 18) rfl rfl m95 dX2_ranked_50 (hC 464 _ zm464 _ _ _ _ hw) q1751 q1752 q1753 zh37 q1754 q169 zn464 rfl (Nat.le_of_ble_eq_true rfl) (st := []) rfl (zcs8 (Nat.le_of_ble_eq_true rfl)) rfl (zkI (fun v89 s90 hw => ?_)) (zout hX hR hTb)
        refine z_pop hX dX2_ranked_53 rfl ?_
        exact hj70  _ hw
abbrev cX2_reason : ByteArray := prog_20_method_32_code
def yX2_reason : MethodName := ⟨RX2, "reason", "(I)I"⟩
def dkwX2_reason_1 : List UInt8 := [182, 1, 9, 172]
abbrev dktX2_reason_1 : List UInt8 := dkwX2_reason_1 ++ []
def dkwX2_reason_0 : List UInt8 := [42, 182, 1, 7, 153, 0, 7, 4, 167, 0, 19, 42, 182, 0, 254, 42, 182, 1, 1, 42, 180, 0, 58, 27]
abbrev dktX2_reason_0 : List UInt8 := dkwX2_reason_0 ++ dktX2_reason_1
theorem dksX2_reason_0 : cX2_reason.data.toList.drop 0 = dktX2_reason_0 := by decide +kernel
theorem dksX2_reason_1 : cX2_reason.data.toList.drop 24 = dktX2_reason_1 := dk_seg dksX2_reason_0 24 rfl rfl
theorem dX2_reason_0 : decode cX2_reason 0 = .ok (.aload_n 0, 1) := dk_42 (dk_at dksX2_reason_0 0 rfl rfl)
theorem dX2_reason_1 : decode cX2_reason 1 = .ok (.invokevirtual 263, 3) := dk_182 1 7 (dk_at dksX2_reason_0 1 rfl rfl)
theorem dX2_reason_4 : decode cX2_reason 4 = .ok (.ifCond .eq 7, 3) := dk_153 0 7 (dk_at dksX2_reason_0 4 rfl rfl)
theorem dX2_reason_7 : decode cX2_reason 7 = .ok (.iconst 1, 1) := dk_4 (dk_at dksX2_reason_0 7 rfl rfl)
theorem dX2_reason_8 : decode cX2_reason 8 = .ok (.goto 19, 3) := dk_167 0 19 (dk_at dksX2_reason_0 8 rfl rfl)
theorem dX2_reason_11 : decode cX2_reason 11 = .ok (.aload_n 0, 1) := dk_42 (dk_at dksX2_reason_0 11 rfl rfl)
theorem dX2_reason_12 : decode cX2_reason 12 = .ok (.invokevirtual 254, 3) := dk_182 0 254 (dk_at dksX2_reason_0 12 rfl rfl)
theorem dX2_reason_15 : decode cX2_reason 15 = .ok (.aload_n 0, 1) := dk_42 (dk_at dksX2_reason_0 15 rfl rfl)
theorem dX2_reason_16 : decode cX2_reason 16 = .ok (.invokevirtual 257, 3) := dk_182 1 1 (dk_at dksX2_reason_0 16 rfl rfl)
theorem dX2_reason_19 : decode cX2_reason 19 = .ok (.aload_n 0, 1) := dk_42 (dk_at dksX2_reason_0 19 rfl rfl)
theorem dX2_reason_20 : decode cX2_reason 20 = .ok (.getfield 58, 3) := dk_180 0 58 (dk_at dksX2_reason_0 20 rfl rfl)
theorem dX2_reason_23 : decode cX2_reason 23 = .ok (.iload_n 1, 1) := dk_27 (dk_at dksX2_reason_0 23 rfl rfl)
theorem dX2_reason_24 : decode cX2_reason 24 = .ok (.invokevirtual 265, 3) := dk_182 1 9 (dk_at dksX2_reason_1 0 rfl rfl)
theorem dX2_reason_27 : decode cX2_reason 27 = .ok (.ireturn, 1) := dk_172 (dk_at dksX2_reason_1 3 rfl rfl)
/-- PackingDuel$State.reason(I)I -/
def zb111 (G : zPg) (C : zO) (args : List Value) (Q : zQ) (Y : zY) (σ : zS) : Prop := ∃ (a0 : Nat) (x1 : Int32), args = [.ref a0, .int x1] ∧ (zrc σ (some a0) 1 (fun a4 => zcl C 101 [.ref a4] Y σ (zqI (fun v1 s2 => zJ (fun (p8 : Int32) (s9 : zS) => Q (some (.int p8)) s9) (fun (j10 : Int32 → zS → Prop) => ((v1 = 0) → zrc s2 (some a0) 1 (fun a15 => zcl C 98 [.ref a15] Y s2 (zqR (fun v12 s13 => zrc s13 (some a0) 1 (fun a22 => zcl C 99 [.ref a22] Y s13 (zqI (fun v19 s20 => zgI s20 (some a0) 1 8 (fun v26 => zrc s20 v12 25 (fun a35 => zcl C 510 [.ref a35, .int v19, .int v26, .int x1] Y s20 (zqI (fun v32 s33 => j10 v32 s33))))))))))) ∧ ((¬ v1 = 0) → j10 (1 : Int32) s2))))))
set_option maxHeartbeats 4000000 in
theorem wk111 {l : Launch} {g : zG} {d : Nat} {C : zO} (hG : zGk g) (hC : zSound l g d C) {args : List Value} {Q : zQ} {Y : zY} {σ : zS} (hw : zb111 (zpg g) C args Q Y σ) : zMet l g (d + 1) (⟨"PackingDuel$State", "reason", "(I)I"⟩, Cond.code ⟨"PackingDuel$State", "reason", "(I)I"⟩ prog_20_method_32_code 2 (Option.some FieldType.int)) args σ Q Y := by
  obtain ⟨a0, x1, rfl, hw⟩ := hw
  refine zof hG (by decide +kernel) [false, false] ⟨rfl, rfl, trivial⟩ (Nat.le_of_ble_eq_true rfl) (ls := [some (va_rf (some a0)), some (.int x1)]) rfl ?_
  intro X hX hR hTb hd1 hd2 hl hg hnm
  subst hl
  subst hg
  have hd : zDep X d := ⟨hd1, hd2⟩
  refine z_aload_n hX dX2_reason_0 rfl (i := 0) rfl ?_
  obtain ⟨a4, f5, r6, m7, hw⟩ := hw
  refine z_invV hX hd r6 (ci := 1) rfl rfl m7 dX2_reason_1 (hC 101 _ zm101 _ _ _ _ hw) q721 q722 q723 zh2 q724 q131 zn101 rfl (Nat.le_of_ble_eq_true rfl) (st := []) rfl (zcs8 (Nat.le_of_ble_eq_true rfl)) rfl (zkI (fun v1 s2 hw => ?_)) (zout hX hR hTb)
  refine zJ_w (P := fun (j : Int32 → zS → Prop) => ∀ (p8 : Int32) (s9 : zS), j p8 s9 → zW X s9 27 [none, none] [.int p8]) hw (fun p8 s9 hw => ?_) (fun j10 hj10 hw => ?_)
  · exact z_ireturn hX hR dX2_reason_27 rfl hw
  · refine z_if_eq hX dX2_reason_4 (tgt := 11) rfl (fun c11 => ?_) (fun c11 => ?_)
    · have hw := hw.1 c11
      refine z_aload_n hX dX2_reason_11 rfl (i := 0) rfl ?_
      obtain ⟨a15, f16, r17, m18, hw⟩ := hw
      refine z_invV hX hd r17 (ci := 1) rfl rfl m18 dX2_reason_12 (hC 98 _ zm98 _ _ _ _ hw) q649 q650 q651 zh2 q652 q131 zn98 rfl (Nat.le_of_ble_eq_true rfl) (st := []) rfl (zcs8 (Nat.le_of_ble_eq_true rfl)) rfl (zkR (fun v12 s13 hw => ?_)) (zout hX hR hTb)
      refine z_aload_n hX dX2_reason_15 rfl (i := 0) rfl ?_
      obtain ⟨a22, f23, r24, m25, hw⟩ := hw
      refine z_invV hX hd r24 (ci := 1) rfl rfl m25 dX2_reason_16 (hC 99 _ zm99 _ _ _ _ hw) q672 q673 q674 zh2 q675 q131 zn99 rfl (Nat.le_of_ble_eq_true rfl) (st := [va_rf v12]) rfl (zcs8 (Nat.le_of_ble_eq_true rfl)) rfl (zkI (fun v19 s20 hw => ?_)) (zout hX hR hTb)
      refine z_aload_n hX dX2_reason_19 rfl (i := 0) rfl ?_
      obtain ⟨a27, f28, v26, r29, m30, e31, hw⟩ := hw
      refine z_get hX zc1 (k := 8) dX2_reason_20 (Nat.le_of_ble_eq_true rfl) (zlk hX q248) r29 m30 e31 ?_
      refine z_iload_n hX dX2_reason_23 rfl (i := 1) rfl ?_
      obtain ⟨a35, f36, r37, m38, hw⟩ := hw
      refine z_invV hX hd r37 (ci := 25) rfl rfl m38 dX2_reason_24 (hC 510 _ zm510 _ _ _ _ hw) q2064 q702 q703 zh46 q704 q179 zn510 rfl (Nat.le_of_ble_eq_true rfl) (st := []) rfl (zcs8 (Nat.le_of_ble_eq_true rfl)) rfl (zkI (fun v32 s33 hw => ?_)) (zout hX hR hTb)
      refine z_sub (ls' := [none, none]) (zsN (zsN (zs0))) ?_
      exact hj10 _ _ hw
    · have hw := hw.2 c11
      refine z_iconst hX (v := (1 : Int32)) dX2_reason_7 (by decide) ?_
      refine z_goto hX dX2_reason_8 (tgt := 27) rfl ?_
      refine z_sub (ls' := [none, none]) (zsN (zsN (zs0))) ?_
      exact hj10 _ _ hw
abbrev cX2_renew : ByteArray := prog_20_method_26_code
def yX2_renew : MethodName := ⟨RX2, "renew", "()V"⟩
def dkwX2_renew_1 : List UInt8 := [180, 0, 18, 182, 0, 243, 42, 42, 180, 0, 21, 182, 0, 243, 42, 182, 0, 246, 177]
abbrev dktX2_renew_1 : List UInt8 := dkwX2_renew_1 ++ []
def dkwX2_renew_0 : List UInt8 := [42, 1, 181, 0, 71, 42, 1, 181, 0, 103, 42, 1, 181, 0, 239, 42, 1, 181, 0, 161, 42, 42]
abbrev dktX2_renew_0 : List UInt8 := dkwX2_renew_0 ++ dktX2_renew_1
theorem dksX2_renew_0 : cX2_renew.data.toList.drop 0 = dktX2_renew_0 := by decide +kernel
theorem dksX2_renew_1 : cX2_renew.data.toList.drop 22 = dktX2_renew_1 := dk_seg dksX2_renew_0 22 rfl rfl
theorem dX2_renew_0 : decode cX2_renew 0 = .ok (.aload_n 0, 1) := dk_42 (dk_at dksX2_renew_0 0 rfl rfl)
theorem dX2_renew_1 : decode cX2_renew 1 = .ok (.aconst_null, 1) := dk_1 (dk_at dksX2_renew_0 1 rfl rfl)
theorem dX2_renew_2 : decode cX2_renew 2 = .ok (.putfield 71, 3) := dk_181 0 71 (dk_at dksX2_renew_0 2 rfl rfl)
theorem dX2_renew_5 : decode cX2_renew 5 = .ok (.aload_n 0, 1) := dk_42 (dk_at dksX2_renew_0 5 rfl rfl)
theorem dX2_renew_6 : decode cX2_renew 6 = .ok (.aconst_null, 1) := dk_1 (dk_at dksX2_renew_0 6 rfl rfl)
theorem dX2_renew_7 : decode cX2_renew 7 = .ok (.putfield 103, 3) := dk_181 0 103 (dk_at dksX2_renew_0 7 rfl rfl)
theorem dX2_renew_10 : decode cX2_renew 10 = .ok (.aload_n 0, 1) := dk_42 (dk_at dksX2_renew_0 10 rfl rfl)
theorem dX2_renew_11 : decode cX2_renew 11 = .ok (.aconst_null, 1) := dk_1 (dk_at dksX2_renew_0 11 rfl rfl)
theorem dX2_renew_12 : decode cX2_renew 12 = .ok (.putfield 239, 3) := dk_181 0 239 (dk_at dksX2_renew_0 12 rfl rfl)
theorem dX2_renew_15 : decode cX2_renew 15 = .ok (.aload_n 0, 1) := dk_42 (dk_at dksX2_renew_0 15 rfl rfl)
theorem dX2_renew_16 : decode cX2_renew 16 = .ok (.aconst_null, 1) := dk_1 (dk_at dksX2_renew_0 16 rfl rfl)
theorem dX2_renew_17 : decode cX2_renew 17 = .ok (.putfield 161, 3) := dk_181 0 161 (dk_at dksX2_renew_0 17 rfl rfl)
theorem dX2_renew_20 : decode cX2_renew 20 = .ok (.aload_n 0, 1) := dk_42 (dk_at dksX2_renew_0 20 rfl rfl)
theorem dX2_renew_21 : decode cX2_renew 21 = .ok (.aload_n 0, 1) := dk_42 (dk_at dksX2_renew_0 21 rfl rfl)
theorem dX2_renew_22 : decode cX2_renew 22 = .ok (.getfield 18, 3) := dk_180 0 18 (dk_at dksX2_renew_1 0 rfl rfl)
theorem dX2_renew_25 : decode cX2_renew 25 = .ok (.invokevirtual 243, 3) := dk_182 0 243 (dk_at dksX2_renew_1 3 rfl rfl)
theorem dX2_renew_28 : decode cX2_renew 28 = .ok (.aload_n 0, 1) := dk_42 (dk_at dksX2_renew_1 6 rfl rfl)
theorem dX2_renew_29 : decode cX2_renew 29 = .ok (.aload_n 0, 1) := dk_42 (dk_at dksX2_renew_1 7 rfl rfl)
theorem dX2_renew_30 : decode cX2_renew 30 = .ok (.getfield 21, 3) := dk_180 0 21 (dk_at dksX2_renew_1 8 rfl rfl)
theorem dX2_renew_33 : decode cX2_renew 33 = .ok (.invokevirtual 243, 3) := dk_182 0 243 (dk_at dksX2_renew_1 11 rfl rfl)
theorem dX2_renew_36 : decode cX2_renew 36 = .ok (.aload_n 0, 1) := dk_42 (dk_at dksX2_renew_1 14 rfl rfl)
theorem dX2_renew_37 : decode cX2_renew 37 = .ok (.invokevirtual 246, 3) := dk_182 0 246 (dk_at dksX2_renew_1 15 rfl rfl)
theorem dX2_renew_40 : decode cX2_renew 40 = .ok (.return_, 1) := dk_177 (dk_at dksX2_renew_1 18 rfl rfl)
/-- PackingDuel$State.renew()V -/
def zb112 (G : zPg) (C : zO) (args : List Value) (Q : zQ) (Y : zY) (σ : zS) : Prop := ∃ (a0 : Nat), args = [.ref a0] ∧ (zput σ G.1 (some a0) 1 11 (va_rf none) (fun s1 => zput s1 G.1 (some a0) 1 12 (va_rf none) (fun s9 => zput s9 G.1 (some a0) 1 13 (va_rf none) (fun s17 => zput s17 G.1 (some a0) 1 14 (va_rf none) (fun s25 => zgR s25 (some a0) 1 1 (fun v33 => zrc s25 (some a0) 1 (fun a42 => zcl C 113 [.ref a42, va_rf v33] Y s25 (zqV (fun s40 => zgR s40 (some a0) 1 2 (fun v46 => zrc s40 (some a0) 1 (fun a55 => zcl C 113 [.ref a55, va_rf v46] Y s40 (zqV (fun s53 => zrc s53 (some a0) 1 (fun a62 => zcl C 107 [.ref a62] Y s53 (zqV (fun s60 => Q none s60))))))))))))))))
set_option maxHeartbeats 4000000 in
theorem wk112 {l : Launch} {g : zG} {d : Nat} {C : zO} (hG : zGk g) (hC : zSound l g d C) {args : List Value} {Q : zQ} {Y : zY} {σ : zS} (hw : zb112 (zpg g) C args Q Y σ) : zMet l g (d + 1) (⟨"PackingDuel$State", "renew", "()V"⟩, Cond.code ⟨"PackingDuel$State", "renew", "()V"⟩ prog_20_method_26_code 1 (Option.none : Option FieldType)) args σ Q Y := by
  obtain ⟨a0, rfl, hw⟩ := hw
  refine zof hG (by decide +kernel) [false] ⟨rfl, trivial⟩ (Nat.le_of_ble_eq_true rfl) (ls := [some (va_rf (some a0))]) rfl ?_
  intro X hX hR hTb hd1 hd2 hl hg hnm
  subst hl
  subst hg
  have hd : zDep X d := ⟨hd1, hd2⟩
  refine z_aload_n hX dX2_renew_0 rfl (i := 0) rfl ?_
  refine z_null hX dX2_renew_1 ?_
  obtain ⟨a3, f4, r5, g6, m7, l8, hw⟩ := hw
  refine z_put hX zc1 (k := 11) dX2_renew_2 (Nat.le_of_ble_eq_true rfl) (zlk hX q253) rfl (zn_o _ _) (zf_o _ _) r5 g6 m7 l8 (z_nm (fun s1 e2 => ?_))
  have hw := hw s1 e2
  refine z_aload_n hX dX2_renew_5 rfl (i := 0) rfl ?_
  refine z_null hX dX2_renew_6 ?_
  obtain ⟨a11, f12, r13, g14, m15, l16, hw⟩ := hw
  refine z_put hX zc1 (k := 12) dX2_renew_7 (Nat.le_of_ble_eq_true rfl) (zlk hX q254) rfl (zn_a _ _) (zf_a _ _) r13 g14 m15 l16 (z_nm (fun s9 e10 => ?_))
  have hw := hw s9 e10
  refine z_aload_n hX dX2_renew_10 rfl (i := 0) rfl ?_
  refine z_null hX dX2_renew_11 ?_
  obtain ⟨a19, f20, r21, g22, m23, l24, hw⟩ := hw
  refine z_put hX zc1 (k := 13) dX2_renew_12 (Nat.le_of_ble_eq_true rfl) (zlk hX q255) rfl (zn_o _ _) (zf_o _ _) r21 g22 m23 l24 (z_nm (fun s17 e18 => ?_))
  have hw := hw s17 e18
  refine z_aload_n hX dX2_renew_15 rfl (i := 0) rfl ?_
  refine z_null hX dX2_renew_16 ?_
  obtain ⟨a27, f28, r29, g30, m31, l32, hw⟩ := hw
  refine z_put hX zc1 (k := 14) dX2_renew_17 (Nat.le_of_ble_eq_true rfl) (zlk hX q256) rfl (zn_a _ _) (zf_a _ _) r29 g30 m31 l32 (z_nm (fun s25 e26 => ?_))
  have hw := hw s25 e26
  refine z_aload_n hX dX2_renew_20 rfl (i := 0) rfl ?_
  refine z_aload_n hX dX2_renew_21 rfl (i := 0) rfl ?_
  obtain ⟨a34, f35, v33, r36, m37, e38, hw⟩ := hw
  refine z_get hX zc1 (k := 1) dX2_renew_22 (Nat.le_of_ble_eq_true rfl) (zlk hX q229) r36 m37 e38 ?_
  obtain ⟨a42, f43, r44, m45, hw⟩ := hw
  refine z_invV hX hd r44 (ci := 1) rfl rfl m45 dX2_renew_25 (hC 113 _ zm113 _ _ _ _ hw) q2098 q2100 qs31 zh2 q2101 q131 zn113 rfl (Nat.le_of_ble_eq_true rfl) (st := []) rfl (zcs8 (Nat.le_of_ble_eq_true rfl)) rfl (zkV (fun s40 hw => ?_)) (zout hX hR hTb)
  refine z_aload_n hX dX2_renew_28 rfl (i := 0) rfl ?_
  refine z_aload_n hX dX2_renew_29 rfl (i := 0) rfl ?_
  obtain ⟨a47, f48, v46, r49, m50, e51, hw⟩ := hw
  refine z_get hX zc1 (k := 2) dX2_renew_30 (Nat.le_of_ble_eq_true rfl) (zlk hX q231) r49 m50 e51 ?_
  obtain ⟨a55, f56, r57, m58, hw⟩ := hw
  refine z_invV hX hd r57 (ci := 1) rfl rfl m58 dX2_renew_33 (hC 113 _ zm113 _ _ _ _ hw) q2098 q2100 qs31 zh2 q2101 q131 zn113 rfl (Nat.le_of_ble_eq_true rfl) (st := []) rfl (zcs8 (Nat.le_of_ble_eq_true rfl)) rfl (zkV (fun s53 hw => ?_)) (zout hX hR hTb)
  refine z_aload_n hX dX2_renew_36 rfl (i := 0) rfl ?_
  obtain ⟨a62, f63, r64, m65, hw⟩ := hw
  refine z_invV hX hd r64 (ci := 1) rfl rfl m65 dX2_renew_37 (hC 107 _ zm107 _ _ _ _ hw) q2111 q959 q960 zh2 q961 q131 zn107 rfl (Nat.le_of_ble_eq_true rfl) (st := []) rfl (zcs8 (Nat.le_of_ble_eq_true rfl)) rfl (zkV (fun s60 hw => ?_)) (zout hX hR hTb)
  exact z_return hX hR dX2_renew_40 hw
abbrev cX2_keepFitting : ByteArray := prog_20_method_25_code
def yX2_keepFitting : MethodName := ⟨RX2, "keepFitting", "(Ljava/util/ArrayList;)V"⟩
def dkwX2_keepFitting_1 : List UInt8 := [182, 0, 111, 154, 0, 9, 43, 28, 182, 0, 236, 87, 132, 2, 255, 167, 255, 225, 177]
abbrev dktX2_keepFitting_1 : List UInt8 := dkwX2_keepFitting_1 ++ []
def dkwX2_keepFitting_0 : List UInt8 := [43, 182, 0, 25, 4, 100, 61, 28, 155, 0, 33, 42, 43, 28, 182, 0, 29, 192, 0, 39, 182, 0, 205]
abbrev dktX2_keepFitting_0 : List UInt8 := dkwX2_keepFitting_0 ++ dktX2_keepFitting_1
theorem dksX2_keepFitting_0 : cX2_keepFitting.data.toList.drop 0 = dktX2_keepFitting_0 := by decide +kernel
theorem dksX2_keepFitting_1 : cX2_keepFitting.data.toList.drop 23 = dktX2_keepFitting_1 := dk_seg dksX2_keepFitting_0 23 rfl rfl
theorem dX2_keepFitting_0 : decode cX2_keepFitting 0 = .ok (.aload_n 1, 1) := dk_43 (dk_at dksX2_keepFitting_0 0 rfl rfl)
theorem dX2_keepFitting_1 : decode cX2_keepFitting 1 = .ok (.invokevirtual 25, 3) := dk_182 0 25 (dk_at dksX2_keepFitting_0 1 rfl rfl)
theorem dX2_keepFitting_4 : decode cX2_keepFitting 4 = .ok (.iconst 1, 1) := dk_4 (dk_at dksX2_keepFitting_0 4 rfl rfl)
theorem dX2_keepFitting_5 : decode cX2_keepFitting 5 = .ok (.isub, 1) := dk_100 (dk_at dksX2_keepFitting_0 5 rfl rfl)
theorem dX2_keepFitting_6 : decode cX2_keepFitting 6 = .ok (.istore_n 2, 1) := dk_61 (dk_at dksX2_keepFitting_0 6 rfl rfl)
theorem dX2_keepFitting_7 : decode cX2_keepFitting 7 = .ok (.iload_n 2, 1) := dk_28 (dk_at dksX2_keepFitting_0 7 rfl rfl)
theorem dX2_keepFitting_8 : decode cX2_keepFitting 8 = .ok (.ifCond .lt 33, 3) := dk_155 0 33 (dk_at dksX2_keepFitting_0 8 rfl rfl)
theorem dX2_keepFitting_11 : decode cX2_keepFitting 11 = .ok (.aload_n 0, 1) := dk_42 (dk_at dksX2_keepFitting_0 11 rfl rfl)
theorem dX2_keepFitting_12 : decode cX2_keepFitting 12 = .ok (.aload_n 1, 1) := dk_43 (dk_at dksX2_keepFitting_0 12 rfl rfl)
theorem dX2_keepFitting_13 : decode cX2_keepFitting 13 = .ok (.iload_n 2, 1) := dk_28 (dk_at dksX2_keepFitting_0 13 rfl rfl)
theorem dX2_keepFitting_14 : decode cX2_keepFitting 14 = .ok (.invokevirtual 29, 3) := dk_182 0 29 (dk_at dksX2_keepFitting_0 14 rfl rfl)
theorem dX2_keepFitting_17 : decode cX2_keepFitting 17 = .ok (.checkcast 39, 3) := dk_192 0 39 (dk_at dksX2_keepFitting_0 17 rfl rfl)
theorem dX2_keepFitting_20 : decode cX2_keepFitting 20 = .ok (.invokevirtual 205, 3) := dk_182 0 205 (dk_at dksX2_keepFitting_0 20 rfl rfl)
theorem dX2_keepFitting_23 : decode cX2_keepFitting 23 = .ok (.invokevirtual 111, 3) := dk_182 0 111 (dk_at dksX2_keepFitting_1 0 rfl rfl)
theorem dX2_keepFitting_26 : decode cX2_keepFitting 26 = .ok (.ifCond .ne 9, 3) := dk_154 0 9 (dk_at dksX2_keepFitting_1 3 rfl rfl)
theorem dX2_keepFitting_29 : decode cX2_keepFitting 29 = .ok (.aload_n 1, 1) := dk_43 (dk_at dksX2_keepFitting_1 6 rfl rfl)
theorem dX2_keepFitting_30 : decode cX2_keepFitting 30 = .ok (.iload_n 2, 1) := dk_28 (dk_at dksX2_keepFitting_1 7 rfl rfl)
theorem dX2_keepFitting_31 : decode cX2_keepFitting 31 = .ok (.invokevirtual 236, 3) := dk_182 0 236 (dk_at dksX2_keepFitting_1 8 rfl rfl)
theorem dX2_keepFitting_34 : decode cX2_keepFitting 34 = .ok (.pop, 1) := dk_87 (dk_at dksX2_keepFitting_1 11 rfl rfl)
theorem dX2_keepFitting_35 : decode cX2_keepFitting 35 = .ok (.iinc 2 (-1), 3) := dk_132 2 255 (dk_at dksX2_keepFitting_1 12 rfl rfl)
theorem dX2_keepFitting_38 : decode cX2_keepFitting 38 = .ok (.goto (-31), 3) := dk_167 255 225 (dk_at dksX2_keepFitting_1 15 rfl rfl)
theorem dX2_keepFitting_41 : decode cX2_keepFitting 41 = .ok (.return_, 1) := dk_177 (dk_at dksX2_keepFitting_1 18 rfl rfl)
/-- PackingDuel$State.keepFitting(Ljava/util/ArrayList;)V -/
def zb113 (G : zPg) (C : zO) (args : List Value) (Q : zQ) (Y : zY) (σ : zS) : Prop := ∃ (a0 : Nat) (x1 : Option Nat), args = [.ref a0, va_rf x1] ∧ (zrc σ x1 2 (fun a4 => zcl C 128 [.ref a4] Y σ (zqI (fun v1 s2 => ∃ n, zIt (fun _ _ => False) (fun rec10 (p8 : Int32) (s9 : zS) => ((p8 < 0) → Q none s9) ∧ ((¬ p8 < 0) → zrc s9 x1 2 (fun a15 => zcl C 129 [.ref a15, .int p8] Y s9 (zqR (fun v12 s13 => (zcst s13 v12 [10] ∧ zrc s13 v12 10 (fun a22 => zcl C 432 [.ref a22] Y s13 (zqI (fun v19 s20 => zrc s20 (some a0) 1 (fun a29 => zcl C 84 [.ref a29, .int v19] Y s20 (zqI (fun v26 s27 => zJ (fun  (s33 : zS) => (∀ v35 : Int32, v35 = p8 + (-1 : Int32) → rec10 v35 s33)) (fun (j34 : zS → Prop) => ((¬ v26 = 0) → j34 s27) ∧ ((v26 = 0) → zrc s27 x1 2 (fun a41 => zcl C 136 [.ref a41, .int p8] Y s27 (zqR (fun v38 s39 => j34 s39))))))))))))))))) n (v1 - (1 : Int32)) s2))))
set_option maxHeartbeats 4000000 in
theorem wk113 {l : Launch} {g : zG} {d : Nat} {C : zO} (hG : zGk g) (hC : zSound l g d C) {args : List Value} {Q : zQ} {Y : zY} {σ : zS} (hw : zb113 (zpg g) C args Q Y σ) : zMet l g (d + 1) (⟨"PackingDuel$State", "keepFitting", "(Ljava/util/ArrayList;)V"⟩, Cond.code ⟨"PackingDuel$State", "keepFitting", "(Ljava/util/ArrayList;)V"⟩ prog_20_method_25_code 3 (Option.none : Option FieldType)) args σ Q Y := by
  obtain ⟨a0, x1, rfl, hw⟩ := hw
  refine zof hG (by decide +kernel) [false, false] ⟨rfl, (zc_rf _), trivial⟩ (Nat.le_of_ble_eq_true rfl) (ls := [some (va_rf (some a0)), some (va_rf x1), none]) rfl ?_
  intro X hX hR hTb hd1 hd2 hl hg hnm
  subst hl
  subst hg
  have hd : zDep X d := ⟨hd1, hd2⟩
  refine z_aload_n hX dX2_keepFitting_0 rfl (i := 1) rfl ?_
  obtain ⟨a4, f5, r6, m7, hw⟩ := hw
  refine z_invV hX hd r6 (ci := 2) rfl rfl m7 dX2_keepFitting_1 (hC 128 _ zm128 _ _ _ _ hw) q477 q362 q363 zh5 q364 q134 zn128 rfl (Nat.le_of_ble_eq_true rfl) (st := []) rfl (zcs8 (Nat.le_of_ble_eq_true rfl)) rfl (zkI (fun v1 s2 hw => ?_)) (zout hX hR hTb)
  refine z_iconst hX (v := (1 : Int32)) dX2_keepFitting_4 (by decide) ?_
  refine z_isub hX dX2_keepFitting_5 ?_
  refine z_istore_n hX dX2_keepFitting_6 rfl (i := 2) (Nat.le_of_ble_eq_true rfl) (zc_rf _) (ls2 := [some (va_rf (some a0)), some (va_rf x1), some (.int (v1 - (1 : Int32)))]) rfl ?_
  obtain ⟨n45, hw⟩ := hw
  refine zIt_w (P := fun (j : Int32 → zS → Prop) => ∀ (p8 : Int32) (s9 : zS), j p8 s9 → zW X s9 7 [some (va_rf (some a0)), some (va_rf x1), some (.int p8)] []) (fun _ _ h => h.elim) (fun rec10 hrec10 p8 s9 hw => ?_) n45 _ _ hw
  refine z_iload_n hX dX2_keepFitting_7 rfl (i := 2) rfl ?_
  refine z_if_lt hX dX2_keepFitting_8 (tgt := 41) rfl (fun c11 => ?_) (fun c11 => ?_)
  · have hw := hw.1 c11
    exact z_return hX hR dX2_keepFitting_41 hw
  · have hw := hw.2 c11
    refine z_aload_n hX dX2_keepFitting_11 rfl (i := 0) rfl ?_
    refine z_aload_n hX dX2_keepFitting_12 rfl (i := 1) rfl ?_
    refine z_iload_n hX dX2_keepFitting_13 rfl (i := 2) rfl ?_
    obtain ⟨a15, f16, r17, m18, hw⟩ := hw
    refine z_invV hX hd r17 (ci := 2) rfl rfl m18 dX2_keepFitting_14 (hC 129 _ zm129 _ _ _ _ hw) q512 q372 q373 zh5 q374 q134 zn129 rfl (Nat.le_of_ble_eq_true rfl) (st := [va_rf (some a0)]) rfl (zcs8 (Nat.le_of_ble_eq_true rfl)) rfl (zkR (fun v12 s13 hw => ?_)) (zout hX hR hTb)
    refine z_cast hX dX2_keepFitting_17 q513 (zfa1 ⟨_, rfl, Or.inl rfl⟩ (zfa0)) hw.1 ?_
    have hw := hw.2
    obtain ⟨a22, f23, r24, m25, hw⟩ := hw
    refine z_invV hX hd r24 (ci := 10) rfl rfl m25 dX2_keepFitting_20 (hC 432 _ zm432 _ _ _ _ hw) q514 q515 q516 zh24 q517 q154 zn432 rfl (Nat.le_of_ble_eq_true rfl) (st := [va_rf (some a0)]) rfl (zcs8 (Nat.le_of_ble_eq_true rfl)) rfl (zkI (fun v19 s20 hw => ?_)) (zout hX hR hTb)
    obtain ⟨a29, f30, r31, m32, hw⟩ := hw
    refine z_invV hX hd r31 (ci := 1) rfl rfl m32 dX2_keepFitting_23 (hC 84 _ zm84 _ _ _ _ hw) q399 q400 q401 zh2 q402 q131 zn84 rfl (Nat.le_of_ble_eq_true rfl) (st := []) rfl (zcs8 (Nat.le_of_ble_eq_true rfl)) rfl (zkI (fun v26 s27 hw => ?_)) (zout hX hR hTb)
    refine zJ_w (P := fun (j : zS → Prop) => ∀  (s33 : zS), j  s33 → zW X s33 35 [some (va_rf (some a0)), some (va_rf x1), some (.int p8)] []) hw (fun  s33 hw => ?_) (fun j34 hj34 hw => ?_)
    · obtain ⟨v35, e36⟩ : ∃ y : Int32, y = p8 + (-1 : Int32) := ⟨_, rfl⟩
      refine z_iinc hX dX2_keepFitting_35 (i := 2) (v := v35) rfl (by rw [e36]; rfl) (Nat.le_of_ble_eq_true rfl) (zc_rf _) (ls2 := [some (va_rf (some a0)), some (va_rf x1), some (.int v35)]) rfl ?_
      have hw := hw v35 e36
      refine z_goto hX dX2_keepFitting_38 (tgt := 7) rfl ?_
      exact hrec10 _ _ hw
    · refine z_if_ne hX dX2_keepFitting_26 (tgt := 35) rfl (fun c37 => ?_) (fun c37 => ?_)
      · have hw := hw.1 c37
        exact hj34  _ hw
      · have hw := hw.2 c37
        refine z_aload_n hX dX2_keepFitting_29 rfl (i := 1) rfl ?_
        refine z_iload_n hX dX2_keepFitting_30 rfl (i := 2) rfl ?_
        obtain ⟨a41, f42, r43, m44, hw⟩ := hw
        refine z_invV hX hd r43 (ci := 2) rfl rfl m44 dX2_keepFitting_31 (hC 136 _ zm136 _ _ _ _ hw) q2102 q2103 q2104 zh5 q2105 q134 zn136 rfl (Nat.le_of_ble_eq_true rfl) (st := []) rfl (zcs8 (Nat.le_of_ble_eq_true rfl)) rfl (zkR (fun v38 s39 hw => ?_)) (zout hX hR hTb)
        refine z_pop hX dX2_keepFitting_34 (zc_rf _) ?_
        exact hj34  _ hw
abbrev cX2_measures : ByteArray := prog_20_method_17_code
def yX2_measures : MethodName := ⟨RX2, "measures", "()[LPackingDuel$Measure;"⟩
def dkwX2_measures_0 : List UInt8 := [42, 180, 0, 161, 199, 0, 15, 42, 42, 42, 182, 0, 80, 182, 0, 165, 181, 0, 161, 42, 180, 0, 161, 176]
abbrev dktX2_measures_0 : List UInt8 := dkwX2_measures_0 ++ []
theorem dksX2_measures_0 : cX2_measures.data.toList.drop 0 = dktX2_measures_0 := by decide +kernel
theorem dX2_measures_0 : decode cX2_measures 0 = .ok (.aload_n 0, 1) := dk_42 (dk_at dksX2_measures_0 0 rfl rfl)
theorem dX2_measures_1 : decode cX2_measures 1 = .ok (.getfield 161, 3) := dk_180 0 161 (dk_at dksX2_measures_0 1 rfl rfl)
theorem dX2_measures_4 : decode cX2_measures 4 = .ok (.ifnonnull 15, 3) := dk_199 0 15 (dk_at dksX2_measures_0 4 rfl rfl)
theorem dX2_measures_7 : decode cX2_measures 7 = .ok (.aload_n 0, 1) := dk_42 (dk_at dksX2_measures_0 7 rfl rfl)
theorem dX2_measures_8 : decode cX2_measures 8 = .ok (.aload_n 0, 1) := dk_42 (dk_at dksX2_measures_0 8 rfl rfl)
theorem dX2_measures_9 : decode cX2_measures 9 = .ok (.aload_n 0, 1) := dk_42 (dk_at dksX2_measures_0 9 rfl rfl)
theorem dX2_measures_10 : decode cX2_measures 10 = .ok (.invokevirtual 80, 3) := dk_182 0 80 (dk_at dksX2_measures_0 10 rfl rfl)
theorem dX2_measures_13 : decode cX2_measures 13 = .ok (.invokevirtual 165, 3) := dk_182 0 165 (dk_at dksX2_measures_0 13 rfl rfl)
theorem dX2_measures_16 : decode cX2_measures 16 = .ok (.putfield 161, 3) := dk_181 0 161 (dk_at dksX2_measures_0 16 rfl rfl)
theorem dX2_measures_19 : decode cX2_measures 19 = .ok (.aload_n 0, 1) := dk_42 (dk_at dksX2_measures_0 19 rfl rfl)
theorem dX2_measures_20 : decode cX2_measures 20 = .ok (.getfield 161, 3) := dk_180 0 161 (dk_at dksX2_measures_0 20 rfl rfl)
theorem dX2_measures_23 : decode cX2_measures 23 = .ok (.areturn, 1) := dk_176 (dk_at dksX2_measures_0 23 rfl rfl)
/-- PackingDuel$State.measures()[LPackingDuel$Measure; -/
def zb114 (G : zPg) (C : zO) (args : List Value) (Q : zQ) (Y : zY) (σ : zS) : Prop := ∃ (a0 : Nat), args = [.ref a0] ∧ (zgR σ (some a0) 1 14 (fun v1 => zJ (fun  (s7 : zS) => zgR s7 (some a0) 1 14 (fun v9 => Q (some (va_rf v9)) s7)) (fun (j8 : zS → Prop) => ((¬ v1 = none) → j8 σ) ∧ ((v1 = none) → zrc σ (some a0) 1 (fun a19 => zcl C 83 [.ref a19] Y σ (zqR (fun v16 s17 => zrc s17 (some a0) 1 (fun a26 => zcl C 115 [.ref a26, va_rf v16] Y s17 (zqR (fun v23 s24 => zput s24 G.1 (some a0) 1 14 (va_rf v23) (fun s30 => j8 s30)))))))))))
set_option maxHeartbeats 4000000 in
theorem wk114 {l : Launch} {g : zG} {d : Nat} {C : zO} (hG : zGk g) (hC : zSound l g d C) {args : List Value} {Q : zQ} {Y : zY} {σ : zS} (hw : zb114 (zpg g) C args Q Y σ) : zMet l g (d + 1) (⟨"PackingDuel$State", "measures", "()[LPackingDuel$Measure;"⟩, Cond.code ⟨"PackingDuel$State", "measures", "()[LPackingDuel$Measure;"⟩ prog_20_method_17_code 1 (Option.some (FieldType.array (FieldType.object "PackingDuel$Measure")))) args σ Q Y := by
  obtain ⟨a0, rfl, hw⟩ := hw
  refine zof hG (by decide +kernel) [false] ⟨rfl, trivial⟩ (Nat.le_of_ble_eq_true rfl) (ls := [some (va_rf (some a0))]) rfl ?_
  intro X hX hR hTb hd1 hd2 hl hg hnm
  subst hl
  subst hg
  have hd : zDep X d := ⟨hd1, hd2⟩
  refine z_aload_n hX dX2_measures_0 rfl (i := 0) rfl ?_
  obtain ⟨a2, f3, v1, r4, m5, e6, hw⟩ := hw
  refine z_get hX zc1 (k := 14) dX2_measures_1 (Nat.le_of_ble_eq_true rfl) (zlk hX q256) r4 m5 e6 ?_
  refine zJ_w (P := fun (j : zS → Prop) => ∀  (s7 : zS), j  s7 → zW X s7 19 [some (va_rf (some a0))] []) hw (fun  s7 hw => ?_) (fun j8 hj8 hw => ?_)
  · refine z_aload_n hX dX2_measures_19 rfl (i := 0) rfl ?_
    obtain ⟨a10, f11, v9, r12, m13, e14, hw⟩ := hw
    refine z_get hX zc1 (k := 14) dX2_measures_20 (Nat.le_of_ble_eq_true rfl) (zlk hX q256) r12 m13 e14 ?_
    exact z_areturn hX hR dX2_measures_23 (Or.inr ⟨_, rfl⟩) hw
  · refine z_ifnonnull hX dX2_measures_4 (tgt := 19) rfl (fun c15 => ?_) (fun c15 => ?_)
    · have hw := hw.1 c15
      exact hj8  _ hw
    · have hw := hw.2 c15
      refine z_aload_n hX dX2_measures_7 rfl (i := 0) rfl ?_
      refine z_aload_n hX dX2_measures_8 rfl (i := 0) rfl ?_
      refine z_aload_n hX dX2_measures_9 rfl (i := 0) rfl ?_
      obtain ⟨a19, f20, r21, m22, hw⟩ := hw
      refine z_invV hX hd r21 (ci := 1) rfl rfl m22 dX2_measures_10 (hC 83 _ zm83 _ _ _ _ hw) q351 q352 q353 zh2 q354 q131 zn83 rfl (Nat.le_of_ble_eq_true rfl) (st := [va_rf (some a0), va_rf (some a0)]) rfl (zcs8 (Nat.le_of_ble_eq_true rfl)) rfl (zkR (fun v16 s17 hw => ?_)) (zout hX hR hTb)
      obtain ⟨a26, f27, r28, m29, hw⟩ := hw
      refine z_invV hX hd r28 (ci := 1) rfl rfl m29 dX2_measures_13 (hC 115 _ zm115 _ _ _ _ hw) q2404 q2406 qs39 zh2 q2407 q131 zn115 rfl (Nat.le_of_ble_eq_true rfl) (st := [va_rf (some a0)]) rfl (zcs8 (Nat.le_of_ble_eq_true rfl)) rfl (zkR (fun v23 s24 hw => ?_)) (zout hX hR hTb)
      obtain ⟨a32, f33, r34, g35, m36, l37, hw⟩ := hw
      refine z_put hX zc1 (k := 14) dX2_measures_16 (Nat.le_of_ble_eq_true rfl) (zlk hX q256) rfl (zn_a _ _) (zf_a _ _) r34 g35 m36 l37 (z_nm (fun s30 e31 => ?_))
      have hw := hw s30 e31
      exact hj8  _ hw
abbrev cX2_lambda_newMeasures_0 : ByteArray := prog_20_method_44_code
def yX2_lambda_newMeasures_0 : MethodName := ⟨RX2, "lambda$newMeasures$0", "(I)I"⟩
theorem dX2_lambda_newMeasures_0_0 : decode cX2_lambda_newMeasures_0 0 = .ok (.iload_n 0, 1) := by decide +kernel
theorem dX2_lambda_newMeasures_0_1 : decode cX2_lambda_newMeasures_0 1 = .ok (.ireturn, 1) := by decide +kernel
/-- PackingDuel$State.lambda$newMeasures$0(I)I -/
def zb116 (G : zPg) (C : zO) (args : List Value) (Q : zQ) (Y : zY) (σ : zS) : Prop := ∃ (x1 : Int32), args = [.int x1] ∧ (Q (some (.int x1)) σ)
set_option maxHeartbeats 4000000 in
theorem wk116 {l : Launch} {g : zG} {d : Nat} {C : zO} (hG : zGk g) (hC : zSound l g d C) {args : List Value} {Q : zQ} {Y : zY} {σ : zS} (hw : zb116 (zpg g) C args Q Y σ) : zMet l g (d + 1) (⟨"PackingDuel$State", "lambda$newMeasures$0", "(I)I"⟩, Cond.code ⟨"PackingDuel$State", "lambda$newMeasures$0", "(I)I"⟩ prog_20_method_44_code 1 (Option.some FieldType.int)) args σ Q Y := by
  obtain ⟨x1, rfl, hw⟩ := hw
  refine zof hG (by decide +kernel) [false] ⟨rfl, trivial⟩ (Nat.le_of_ble_eq_true rfl) (ls := [some (.int x1)]) rfl ?_
  intro X hX hR hTb hd1 hd2 hl hg hnm
  subst hl
  subst hg
  have hd : zDep X d := ⟨hd1, hd2⟩
  refine z_iload_n hX dX2_lambda_newMeasures_0_0 rfl (i := 0) rfl ?_
  exact z_ireturn hX hR dX2_lambda_newMeasures_0_1 rfl hw
abbrev cX2_lambda_newMeasures_1 : ByteArray := prog_20_method_43_code
def yX2_lambda_newMeasures_1 : MethodName := ⟨RX2, "lambda$newMeasures$1", "(I)I"⟩
theorem dX2_lambda_newMeasures_1_0 : decode cX2_lambda_newMeasures_1 0 = .ok (.iload_n 0, 1) := by decide +kernel
theorem dX2_lambda_newMeasures_1_1 : decode cX2_lambda_newMeasures_1 1 = .ok (.invokestatic 215, 3) := by decide +kernel
theorem dX2_lambda_newMeasures_1_4 : decode cX2_lambda_newMeasures_1 4 = .ok (.ireturn, 1) := by decide +kernel
/-- PackingDuel$State.lambda$newMeasures$1(I)I -/
def zb117 (G : zPg) (C : zO) (args : List Value) (Q : zQ) (Y : zY) (σ : zS) : Prop := ∃ (x1 : Int32), args = [.int x1] ∧ (zcl C 433 [.int x1] Y σ (zqI (fun v1 s2 => Q (some (.int v1)) s2)))
set_option maxHeartbeats 4000000 in
theorem wk117 {l : Launch} {g : zG} {d : Nat} {C : zO} (hG : zGk g) (hC : zSound l g d C) {args : List Value} {Q : zQ} {Y : zY} {σ : zS} (hw : zb117 (zpg g) C args Q Y σ) : zMet l g (d + 1) (⟨"PackingDuel$State", "lambda$newMeasures$1", "(I)I"⟩, Cond.code ⟨"PackingDuel$State", "lambda$newMeasures$1", "(I)I"⟩ prog_20_method_43_code 1 (Option.some FieldType.int)) args σ Q Y := by
  obtain ⟨x1, rfl, hw⟩ := hw
  refine zof hG (by decide +kernel) [false] ⟨rfl, trivial⟩ (Nat.le_of_ble_eq_true rfl) (ls := [some (.int x1)]) rfl ?_
  intro X hX hR hTb hd1 hd2 hl hg hnm
  subst hl
  subst hg
  have hd : zDep X d := ⟨hd1, hd2⟩
  refine z_iload_n hX dX2_lambda_newMeasures_1_0 rfl (i := 0) rfl ?_
  refine z_invS hX hd dX2_lambda_newMeasures_1_1 (hC 433 _ zm433 _ _ _ _ hw) q530 q531 zh24 q532 q154 zn433 rfl (Nat.le_of_ble_eq_true rfl) (st := []) rfl (zcs8 (Nat.le_of_ble_eq_true rfl)) rfl (zkI (fun v1 s2 hw => ?_)) (zout hX hR hTb)
  exact z_ireturn hX hR dX2_lambda_newMeasures_1_4 rfl hw
abbrev cX2_lambda_newMeasures_2 : ByteArray := prog_20_method_42_code
def yX2_lambda_newMeasures_2 : MethodName := ⟨RX2, "lambda$newMeasures$2", "(LPackingDuel$Sums;I)I"⟩
def dkwX2_lambda_newMeasures_2_0 : List UInt8 := [42, 27, 182, 0, 90, 172]
abbrev dktX2_lambda_newMeasures_2_0 : List UInt8 := dkwX2_lambda_newMeasures_2_0 ++ []
theorem dksX2_lambda_newMeasures_2_0 : cX2_lambda_newMeasures_2.data.toList.drop 0 = dktX2_lambda_newMeasures_2_0 := by decide +kernel
theorem dX2_lambda_newMeasures_2_0 : decode cX2_lambda_newMeasures_2 0 = .ok (.aload_n 0, 1) := dk_42 (dk_at dksX2_lambda_newMeasures_2_0 0 rfl rfl)
theorem dX2_lambda_newMeasures_2_1 : decode cX2_lambda_newMeasures_2 1 = .ok (.iload_n 1, 1) := dk_27 (dk_at dksX2_lambda_newMeasures_2_0 1 rfl rfl)
theorem dX2_lambda_newMeasures_2_2 : decode cX2_lambda_newMeasures_2 2 = .ok (.invokevirtual 90, 3) := dk_182 0 90 (dk_at dksX2_lambda_newMeasures_2_0 2 rfl rfl)
theorem dX2_lambda_newMeasures_2_5 : decode cX2_lambda_newMeasures_2 5 = .ok (.ireturn, 1) := dk_172 (dk_at dksX2_lambda_newMeasures_2_0 5 rfl rfl)
/-- PackingDuel$State.lambda$newMeasures$2(LPackingDuel$Sums;I)I -/
def zb118 (G : zPg) (C : zO) (args : List Value) (Q : zQ) (Y : zY) (σ : zS) : Prop := ∃ (x1 : Option Nat) (x2 : Int32), args = [va_rf x1, .int x2] ∧ (zrc σ x1 14 (fun a4 => zcl C 453 [.ref a4, .int x2] Y σ (zqI (fun v1 s2 => Q (some (.int v1)) s2))))
set_option maxHeartbeats 4000000 in
theorem wk118 {l : Launch} {g : zG} {d : Nat} {C : zO} (hG : zGk g) (hC : zSound l g d C) {args : List Value} {Q : zQ} {Y : zY} {σ : zS} (hw : zb118 (zpg g) C args Q Y σ) : zMet l g (d + 1) (⟨"PackingDuel$State", "lambda$newMeasures$2", "(LPackingDuel$Sums;I)I"⟩, Cond.code ⟨"PackingDuel$State", "lambda$newMeasures$2", "(LPackingDuel$Sums;I)I"⟩ prog_20_method_42_code 2 (Option.some FieldType.int)) args σ Q Y := by
  obtain ⟨x1, x2, rfl, hw⟩ := hw
  refine zof hG (by decide +kernel) [false, false] ⟨(zc_rf _), rfl, trivial⟩ (Nat.le_of_ble_eq_true rfl) (ls := [some (va_rf x1), some (.int x2)]) rfl ?_
  intro X hX hR hTb hd1 hd2 hl hg hnm
  subst hl
  subst hg
  have hd : zDep X d := ⟨hd1, hd2⟩
  refine z_aload_n hX dX2_lambda_newMeasures_2_0 rfl (i := 0) rfl ?_
  refine z_iload_n hX dX2_lambda_newMeasures_2_1 rfl (i := 1) rfl ?_
  obtain ⟨a4, f5, r6, m7, hw⟩ := hw
  refine z_invV hX hd r6 (ci := 14) rfl rfl m7 dX2_lambda_newMeasures_2_2 (hC 453 _ zm453 _ _ _ _ hw) q403 q404 q405 zh30 q406 q161 zn453 rfl (Nat.le_of_ble_eq_true rfl) (st := []) rfl (zcs8 (Nat.le_of_ble_eq_true rfl)) rfl (zkI (fun v1 s2 hw => ?_)) (zout hX hR hTb)
  exact z_ireturn hX hR dX2_lambda_newMeasures_2_5 rfl hw
abbrev cX2_lambda_newMeasures_3 : ByteArray := prog_20_method_41_code
def yX2_lambda_newMeasures_3 : MethodName := ⟨RX2, "lambda$newMeasures$3", "(I)I"⟩
def dkwX2_lambda_newMeasures_3_0 : List UInt8 := [42, 27, 182, 0, 94, 172]
abbrev dktX2_lambda_newMeasures_3_0 : List UInt8 := dkwX2_lambda_newMeasures_3_0 ++ []
theorem dksX2_lambda_newMeasures_3_0 : cX2_lambda_newMeasures_3.data.toList.drop 0 = dktX2_lambda_newMeasures_3_0 := by decide +kernel
theorem dX2_lambda_newMeasures_3_0 : decode cX2_lambda_newMeasures_3 0 = .ok (.aload_n 0, 1) := dk_42 (dk_at dksX2_lambda_newMeasures_3_0 0 rfl rfl)
theorem dX2_lambda_newMeasures_3_1 : decode cX2_lambda_newMeasures_3 1 = .ok (.iload_n 1, 1) := dk_27 (dk_at dksX2_lambda_newMeasures_3_0 1 rfl rfl)
theorem dX2_lambda_newMeasures_3_2 : decode cX2_lambda_newMeasures_3 2 = .ok (.invokevirtual 94, 3) := dk_182 0 94 (dk_at dksX2_lambda_newMeasures_3_0 2 rfl rfl)
theorem dX2_lambda_newMeasures_3_5 : decode cX2_lambda_newMeasures_3 5 = .ok (.ireturn, 1) := dk_172 (dk_at dksX2_lambda_newMeasures_3_0 5 rfl rfl)
/-- PackingDuel$State.lambda$newMeasures$3(I)I -/
def zb119 (G : zPg) (C : zO) (args : List Value) (Q : zQ) (Y : zY) (σ : zS) : Prop := ∃ (a0 : Nat) (x1 : Int32), args = [.ref a0, .int x1] ∧ (zrc σ (some a0) 1 (fun a4 => zcl C 86 [.ref a4, .int x1] Y σ (zqI (fun v1 s2 => Q (some (.int v1)) s2))))
set_option maxHeartbeats 4000000 in
theorem wk119 {l : Launch} {g : zG} {d : Nat} {C : zO} (hG : zGk g) (hC : zSound l g d C) {args : List Value} {Q : zQ} {Y : zY} {σ : zS} (hw : zb119 (zpg g) C args Q Y σ) : zMet l g (d + 1) (⟨"PackingDuel$State", "lambda$newMeasures$3", "(I)I"⟩, Cond.code ⟨"PackingDuel$State", "lambda$newMeasures$3", "(I)I"⟩ prog_20_method_41_code 2 (Option.some FieldType.int)) args σ Q Y := by
  obtain ⟨a0, x1, rfl, hw⟩ := hw
  refine zof hG (by decide +kernel) [false, false] ⟨rfl, rfl, trivial⟩ (Nat.le_of_ble_eq_true rfl) (ls := [some (va_rf (some a0)), some (.int x1)]) rfl ?_
  intro X hX hR hTb hd1 hd2 hl hg hnm
  subst hl
  subst hg
  have hd : zDep X d := ⟨hd1, hd2⟩
  refine z_aload_n hX dX2_lambda_newMeasures_3_0 rfl (i := 0) rfl ?_
  refine z_iload_n hX dX2_lambda_newMeasures_3_1 rfl (i := 1) rfl ?_
  obtain ⟨a4, f5, r6, m7, hw⟩ := hw
  refine z_invV hX hd r6 (ci := 1) rfl rfl m7 dX2_lambda_newMeasures_3_2 (hC 86 _ zm86 _ _ _ _ hw) q411 q412 q413 zh2 q414 q131 zn86 rfl (Nat.le_of_ble_eq_true rfl) (st := []) rfl (zcs8 (Nat.le_of_ble_eq_true rfl)) rfl (zkI (fun v1 s2 hw => ?_)) (zout hX hR hTb)
  exact z_ireturn hX hR dX2_lambda_newMeasures_3_5 rfl hw
abbrev cX2_lambda_newMeasures_4 : ByteArray := prog_20_method_40_code
def yX2_lambda_newMeasures_4 : MethodName := ⟨RX2, "lambda$newMeasures$4", "(LPackingDuel$Sums;I)I"⟩
def dkwX2_lambda_newMeasures_4_0 : List UInt8 := [42, 180, 0, 122, 4, 50, 27, 46, 172]
abbrev dktX2_lambda_newMeasures_4_0 : List UInt8 := dkwX2_lambda_newMeasures_4_0 ++ []
theorem dksX2_lambda_newMeasures_4_0 : cX2_lambda_newMeasures_4.data.toList.drop 0 = dktX2_lambda_newMeasures_4_0 := by decide +kernel
theorem dX2_lambda_newMeasures_4_0 : decode cX2_lambda_newMeasures_4 0 = .ok (.aload_n 0, 1) := dk_42 (dk_at dksX2_lambda_newMeasures_4_0 0 rfl rfl)
theorem dX2_lambda_newMeasures_4_1 : decode cX2_lambda_newMeasures_4 1 = .ok (.getfield 122, 3) := dk_180 0 122 (dk_at dksX2_lambda_newMeasures_4_0 1 rfl rfl)
theorem dX2_lambda_newMeasures_4_4 : decode cX2_lambda_newMeasures_4 4 = .ok (.iconst 1, 1) := dk_4 (dk_at dksX2_lambda_newMeasures_4_0 4 rfl rfl)
theorem dX2_lambda_newMeasures_4_5 : decode cX2_lambda_newMeasures_4 5 = .ok (.aaload, 1) := dk_50 (dk_at dksX2_lambda_newMeasures_4_0 5 rfl rfl)
theorem dX2_lambda_newMeasures_4_6 : decode cX2_lambda_newMeasures_4 6 = .ok (.iload_n 1, 1) := dk_27 (dk_at dksX2_lambda_newMeasures_4_0 6 rfl rfl)
theorem dX2_lambda_newMeasures_4_7 : decode cX2_lambda_newMeasures_4 7 = .ok (.iaload, 1) := dk_46 (dk_at dksX2_lambda_newMeasures_4_0 7 rfl rfl)
theorem dX2_lambda_newMeasures_4_8 : decode cX2_lambda_newMeasures_4 8 = .ok (.ireturn, 1) := dk_172 (dk_at dksX2_lambda_newMeasures_4_0 8 rfl rfl)
/-- PackingDuel$State.lambda$newMeasures$4(LPackingDuel$Sums;I)I -/
def zb120 (G : zPg) (C : zO) (args : List Value) (Q : zQ) (Y : zY) (σ : zS) : Prop := ∃ (x1 : Option Nat) (x2 : Int32), args = [va_rf x1, .int x2] ∧ (zgR σ x1 14 0 (fun v1 => zaR σ 5 v1 (1 : Int32) (fun v13 => zaI σ 0 v13 x2 (fun v21 => Q (some (.int v21)) σ))))
set_option maxHeartbeats 4000000 in
theorem wk120 {l : Launch} {g : zG} {d : Nat} {C : zO} (hG : zGk g) (hC : zSound l g d C) {args : List Value} {Q : zQ} {Y : zY} {σ : zS} (hw : zb120 (zpg g) C args Q Y σ) : zMet l g (d + 1) (⟨"PackingDuel$State", "lambda$newMeasures$4", "(LPackingDuel$Sums;I)I"⟩, Cond.code ⟨"PackingDuel$State", "lambda$newMeasures$4", "(LPackingDuel$Sums;I)I"⟩ prog_20_method_40_code 2 (Option.some FieldType.int)) args σ Q Y := by
  obtain ⟨x1, x2, rfl, hw⟩ := hw
  refine zof hG (by decide +kernel) [false, false] ⟨(zc_rf _), rfl, trivial⟩ (Nat.le_of_ble_eq_true rfl) (ls := [some (va_rf x1), some (.int x2)]) rfl ?_
  intro X hX hR hTb hd1 hd2 hl hg hnm
  subst hl
  subst hg
  have hd : zDep X d := ⟨hd1, hd2⟩
  refine z_aload_n hX dX2_lambda_newMeasures_4_0 rfl (i := 0) rfl ?_
  obtain ⟨a2, f3, v1, r4, m5, e6, hw⟩ := hw
  refine z_get hX zc14 (k := 0) dX2_lambda_newMeasures_4_1 (Nat.le_of_ble_eq_true rfl) (zlkN hX "PackingDuel" q389) r4 m5 e6 ?_
  refine z_iconst hX (v := (1 : Int32)) dX2_lambda_newMeasures_4_4 (by decide) ?_
  obtain ⟨a7, n8, f9, r10, m11, i12, hw⟩ := hw
  refine z_aald hX 5 dX2_lambda_newMeasures_4_5 rfl r10 m11 i12 ?_
  revert hw
  generalize f9 (Int32.toNatClampNeg (1 : Int32)) = v13
  intro hw
  refine z_iload_n hX dX2_lambda_newMeasures_4_6 rfl (i := 1) rfl ?_
  obtain ⟨a15, n16, f17, r18, m19, i20, hw⟩ := hw
  refine z_iald hX dX2_lambda_newMeasures_4_7 r18 m19 i20 ?_
  revert hw
  generalize f17 (Int32.toNatClampNeg x2) = v21
  intro hw
  exact z_ireturn hX hR dX2_lambda_newMeasures_4_8 rfl hw
abbrev cX2_lambda_newMeasures_5 : ByteArray := prog_20_method_39_code
def yX2_lambda_newMeasures_5 : MethodName := ⟨RX2, "lambda$newMeasures$5", "(LPackingDuel$Sums;I)I"⟩
def dkwX2_lambda_newMeasures_5_0 : List UInt8 := [43, 180, 0, 122, 5, 50, 42, 28, 182, 1, 22, 46, 172]
abbrev dktX2_lambda_newMeasures_5_0 : List UInt8 := dkwX2_lambda_newMeasures_5_0 ++ []
theorem dksX2_lambda_newMeasures_5_0 : cX2_lambda_newMeasures_5.data.toList.drop 0 = dktX2_lambda_newMeasures_5_0 := by decide +kernel
theorem dX2_lambda_newMeasures_5_0 : decode cX2_lambda_newMeasures_5 0 = .ok (.aload_n 1, 1) := dk_43 (dk_at dksX2_lambda_newMeasures_5_0 0 rfl rfl)
theorem dX2_lambda_newMeasures_5_1 : decode cX2_lambda_newMeasures_5 1 = .ok (.getfield 122, 3) := dk_180 0 122 (dk_at dksX2_lambda_newMeasures_5_0 1 rfl rfl)
theorem dX2_lambda_newMeasures_5_4 : decode cX2_lambda_newMeasures_5 4 = .ok (.iconst 2, 1) := dk_5 (dk_at dksX2_lambda_newMeasures_5_0 4 rfl rfl)
theorem dX2_lambda_newMeasures_5_5 : decode cX2_lambda_newMeasures_5 5 = .ok (.aaload, 1) := dk_50 (dk_at dksX2_lambda_newMeasures_5_0 5 rfl rfl)
theorem dX2_lambda_newMeasures_5_6 : decode cX2_lambda_newMeasures_5 6 = .ok (.aload_n 0, 1) := dk_42 (dk_at dksX2_lambda_newMeasures_5_0 6 rfl rfl)
theorem dX2_lambda_newMeasures_5_7 : decode cX2_lambda_newMeasures_5 7 = .ok (.iload_n 2, 1) := dk_28 (dk_at dksX2_lambda_newMeasures_5_0 7 rfl rfl)
theorem dX2_lambda_newMeasures_5_8 : decode cX2_lambda_newMeasures_5 8 = .ok (.invokevirtual 278, 3) := dk_182 1 22 (dk_at dksX2_lambda_newMeasures_5_0 8 rfl rfl)
theorem dX2_lambda_newMeasures_5_11 : decode cX2_lambda_newMeasures_5 11 = .ok (.iaload, 1) := dk_46 (dk_at dksX2_lambda_newMeasures_5_0 11 rfl rfl)
theorem dX2_lambda_newMeasures_5_12 : decode cX2_lambda_newMeasures_5 12 = .ok (.ireturn, 1) := dk_172 (dk_at dksX2_lambda_newMeasures_5_0 12 rfl rfl)
/-- PackingDuel$State.lambda$newMeasures$5(LPackingDuel$Sums;I)I -/
def zb121 (G : zPg) (C : zO) (args : List Value) (Q : zQ) (Y : zY) (σ : zS) : Prop := ∃ (a0 : Nat) (x1 : Option Nat) (x2 : Int32), args = [.ref a0, va_rf x1, .int x2] ∧ (zgR σ x1 14 0 (fun v1 => zaR σ 5 v1 (2 : Int32) (fun v13 => zrc σ (some a0) 1 (fun a18 => zcl C 104 [.ref a18, .int x2] Y σ (zqI (fun v15 s16 => zaI s16 0 v13 v15 (fun v28 => Q (some (.int v28)) s16)))))))
set_option maxHeartbeats 4000000 in
theorem wk121 {l : Launch} {g : zG} {d : Nat} {C : zO} (hG : zGk g) (hC : zSound l g d C) {args : List Value} {Q : zQ} {Y : zY} {σ : zS} (hw : zb121 (zpg g) C args Q Y σ) : zMet l g (d + 1) (⟨"PackingDuel$State", "lambda$newMeasures$5", "(LPackingDuel$Sums;I)I"⟩, Cond.code ⟨"PackingDuel$State", "lambda$newMeasures$5", "(LPackingDuel$Sums;I)I"⟩ prog_20_method_39_code 3 (Option.some FieldType.int)) args σ Q Y := by
  obtain ⟨a0, x1, x2, rfl, hw⟩ := hw
  refine zof hG (by decide +kernel) [false, false, false] ⟨rfl, (zc_rf _), rfl, trivial⟩ (Nat.le_of_ble_eq_true rfl) (ls := [some (va_rf (some a0)), some (va_rf x1), some (.int x2)]) rfl ?_
  intro X hX hR hTb hd1 hd2 hl hg hnm
  subst hl
  subst hg
  have hd : zDep X d := ⟨hd1, hd2⟩
  refine z_aload_n hX dX2_lambda_newMeasures_5_0 rfl (i := 1) rfl ?_
  obtain ⟨a2, f3, v1, r4, m5, e6, hw⟩ := hw
  refine z_get hX zc14 (k := 0) dX2_lambda_newMeasures_5_1 (Nat.le_of_ble_eq_true rfl) (zlkN hX "PackingDuel" q389) r4 m5 e6 ?_
  refine z_iconst hX (v := (2 : Int32)) dX2_lambda_newMeasures_5_4 (by decide) ?_
  obtain ⟨a7, n8, f9, r10, m11, i12, hw⟩ := hw
  refine z_aald hX 5 dX2_lambda_newMeasures_5_5 rfl r10 m11 i12 ?_
  revert hw
  generalize f9 (Int32.toNatClampNeg (2 : Int32)) = v13
  intro hw
  refine z_aload_n hX dX2_lambda_newMeasures_5_6 rfl (i := 0) rfl ?_
  refine z_iload_n hX dX2_lambda_newMeasures_5_7 rfl (i := 2) rfl ?_
  obtain ⟨a18, f19, r20, m21, hw⟩ := hw
  refine z_invV hX hd r20 (ci := 1) rfl rfl m21 dX2_lambda_newMeasures_5_8 (hC 104 _ zm104 _ _ _ _ hw) q2424 q750 q751 zh2 q752 q131 zn104 rfl (Nat.le_of_ble_eq_true rfl) (st := [va_rf v13]) rfl (zcs8 (Nat.le_of_ble_eq_true rfl)) rfl (zkI (fun v15 s16 hw => ?_)) (zout hX hR hTb)
  obtain ⟨a22, n23, f24, r25, m26, i27, hw⟩ := hw
  refine z_iald hX dX2_lambda_newMeasures_5_11 r25 m26 i27 ?_
  revert hw
  generalize f24 (Int32.toNatClampNeg v15) = v28
  intro hw
  exact z_ireturn hX hR dX2_lambda_newMeasures_5_12 rfl hw
abbrev cX2_lambda_newMeasures_6 : ByteArray := prog_20_method_38_code
def yX2_lambda_newMeasures_6 : MethodName := ⟨RX2, "lambda$newMeasures$6", "(LPackingDuel$Sums;I)I"⟩
def dkwX2_lambda_newMeasures_6_0 : List UInt8 := [43, 180, 0, 122, 6, 50, 42, 28, 182, 1, 22, 46, 172]
abbrev dktX2_lambda_newMeasures_6_0 : List UInt8 := dkwX2_lambda_newMeasures_6_0 ++ []
theorem dksX2_lambda_newMeasures_6_0 : cX2_lambda_newMeasures_6.data.toList.drop 0 = dktX2_lambda_newMeasures_6_0 := by decide +kernel
theorem dX2_lambda_newMeasures_6_0 : decode cX2_lambda_newMeasures_6 0 = .ok (.aload_n 1, 1) := dk_43 (dk_at dksX2_lambda_newMeasures_6_0 0 rfl rfl)
theorem dX2_lambda_newMeasures_6_1 : decode cX2_lambda_newMeasures_6 1 = .ok (.getfield 122, 3) := dk_180 0 122 (dk_at dksX2_lambda_newMeasures_6_0 1 rfl rfl)
theorem dX2_lambda_newMeasures_6_4 : decode cX2_lambda_newMeasures_6 4 = .ok (.iconst 3, 1) := dk_6 (dk_at dksX2_lambda_newMeasures_6_0 4 rfl rfl)
theorem dX2_lambda_newMeasures_6_5 : decode cX2_lambda_newMeasures_6 5 = .ok (.aaload, 1) := dk_50 (dk_at dksX2_lambda_newMeasures_6_0 5 rfl rfl)
theorem dX2_lambda_newMeasures_6_6 : decode cX2_lambda_newMeasures_6 6 = .ok (.aload_n 0, 1) := dk_42 (dk_at dksX2_lambda_newMeasures_6_0 6 rfl rfl)
theorem dX2_lambda_newMeasures_6_7 : decode cX2_lambda_newMeasures_6 7 = .ok (.iload_n 2, 1) := dk_28 (dk_at dksX2_lambda_newMeasures_6_0 7 rfl rfl)
theorem dX2_lambda_newMeasures_6_8 : decode cX2_lambda_newMeasures_6 8 = .ok (.invokevirtual 278, 3) := dk_182 1 22 (dk_at dksX2_lambda_newMeasures_6_0 8 rfl rfl)
theorem dX2_lambda_newMeasures_6_11 : decode cX2_lambda_newMeasures_6 11 = .ok (.iaload, 1) := dk_46 (dk_at dksX2_lambda_newMeasures_6_0 11 rfl rfl)
theorem dX2_lambda_newMeasures_6_12 : decode cX2_lambda_newMeasures_6 12 = .ok (.ireturn, 1) := dk_172 (dk_at dksX2_lambda_newMeasures_6_0 12 rfl rfl)
/-- PackingDuel$State.lambda$newMeasures$6(LPackingDuel$Sums;I)I -/
def zb122 (G : zPg) (C : zO) (args : List Value) (Q : zQ) (Y : zY) (σ : zS) : Prop := ∃ (a0 : Nat) (x1 : Option Nat) (x2 : Int32), args = [.ref a0, va_rf x1, .int x2] ∧ (zgR σ x1 14 0 (fun v1 => zaR σ 5 v1 (3 : Int32) (fun v13 => zrc σ (some a0) 1 (fun a18 => zcl C 104 [.ref a18, .int x2] Y σ (zqI (fun v15 s16 => zaI s16 0 v13 v15 (fun v28 => Q (some (.int v28)) s16)))))))
set_option maxHeartbeats 4000000 in
theorem wk122 {l : Launch} {g : zG} {d : Nat} {C : zO} (hG : zGk g) (hC : zSound l g d C) {args : List Value} {Q : zQ} {Y : zY} {σ : zS} (hw : zb122 (zpg g) C args Q Y σ) : zMet l g (d + 1) (⟨"PackingDuel$State", "lambda$newMeasures$6", "(LPackingDuel$Sums;I)I"⟩, Cond.code ⟨"PackingDuel$State", "lambda$newMeasures$6", "(LPackingDuel$Sums;I)I"⟩ prog_20_method_38_code 3 (Option.some FieldType.int)) args σ Q Y := by
  obtain ⟨a0, x1, x2, rfl, hw⟩ := hw
  refine zof hG (by decide +kernel) [false, false, false] ⟨rfl, (zc_rf _), rfl, trivial⟩ (Nat.le_of_ble_eq_true rfl) (ls := [some (va_rf (some a0)), some (va_rf x1), some (.int x2)]) rfl ?_
  intro X hX hR hTb hd1 hd2 hl hg hnm
  subst hl
  subst hg
  have hd : zDep X d := ⟨hd1, hd2⟩
  refine z_aload_n hX dX2_lambda_newMeasures_6_0 rfl (i := 1) rfl ?_
  obtain ⟨a2, f3, v1, r4, m5, e6, hw⟩ := hw
  refine z_get hX zc14 (k := 0) dX2_lambda_newMeasures_6_1 (Nat.le_of_ble_eq_true rfl) (zlkN hX "PackingDuel" q389) r4 m5 e6 ?_
  refine z_iconst hX (v := (3 : Int32)) dX2_lambda_newMeasures_6_4 (by decide) ?_
  obtain ⟨a7, n8, f9, r10, m11, i12, hw⟩ := hw
  refine z_aald hX 5 dX2_lambda_newMeasures_6_5 rfl r10 m11 i12 ?_
  revert hw
  generalize f9 (Int32.toNatClampNeg (3 : Int32)) = v13
  intro hw
  refine z_aload_n hX dX2_lambda_newMeasures_6_6 rfl (i := 0) rfl ?_
  refine z_iload_n hX dX2_lambda_newMeasures_6_7 rfl (i := 2) rfl ?_
  obtain ⟨a18, f19, r20, m21, hw⟩ := hw
  refine z_invV hX hd r20 (ci := 1) rfl rfl m21 dX2_lambda_newMeasures_6_8 (hC 104 _ zm104 _ _ _ _ hw) q2424 q750 q751 zh2 q752 q131 zn104 rfl (Nat.le_of_ble_eq_true rfl) (st := [va_rf v13]) rfl (zcs8 (Nat.le_of_ble_eq_true rfl)) rfl (zkI (fun v15 s16 hw => ?_)) (zout hX hR hTb)
  obtain ⟨a22, n23, f24, r25, m26, i27, hw⟩ := hw
  refine z_iald hX dX2_lambda_newMeasures_6_11 r25 m26 i27 ?_
  revert hw
  generalize f24 (Int32.toNatClampNeg v15) = v28
  intro hw
  exact z_ireturn hX hR dX2_lambda_newMeasures_6_12 rfl hw
abbrev cX2_lambda_newMeasures_7 : ByteArray := prog_20_method_37_code
def yX2_lambda_newMeasures_7 : MethodName := ⟨RX2, "lambda$newMeasures$7", "(I)I"⟩
def dkwX2_lambda_newMeasures_7_0 : List UInt8 := [42, 27, 182, 0, 144, 172]
abbrev dktX2_lambda_newMeasures_7_0 : List UInt8 := dkwX2_lambda_newMeasures_7_0 ++ []
theorem dksX2_lambda_newMeasures_7_0 : cX2_lambda_newMeasures_7.data.toList.drop 0 = dktX2_lambda_newMeasures_7_0 := by decide +kernel
theorem dX2_lambda_newMeasures_7_0 : decode cX2_lambda_newMeasures_7 0 = .ok (.aload_n 0, 1) := dk_42 (dk_at dksX2_lambda_newMeasures_7_0 0 rfl rfl)
theorem dX2_lambda_newMeasures_7_1 : decode cX2_lambda_newMeasures_7 1 = .ok (.iload_n 1, 1) := dk_27 (dk_at dksX2_lambda_newMeasures_7_0 1 rfl rfl)
theorem dX2_lambda_newMeasures_7_2 : decode cX2_lambda_newMeasures_7 2 = .ok (.invokevirtual 144, 3) := dk_182 0 144 (dk_at dksX2_lambda_newMeasures_7_0 2 rfl rfl)
theorem dX2_lambda_newMeasures_7_5 : decode cX2_lambda_newMeasures_7 5 = .ok (.ireturn, 1) := dk_172 (dk_at dksX2_lambda_newMeasures_7_0 5 rfl rfl)
/-- PackingDuel$State.lambda$newMeasures$7(I)I -/
def zb123 (G : zPg) (C : zO) (args : List Value) (Q : zQ) (Y : zY) (σ : zS) : Prop := ∃ (a0 : Nat) (x1 : Int32), args = [.ref a0, .int x1] ∧ (zrc σ (some a0) 1 (fun a4 => zcl C 102 [.ref a4, .int x1] Y σ (zqI (fun v1 s2 => Q (some (.int v1)) s2))))
set_option maxHeartbeats 4000000 in
theorem wk123 {l : Launch} {g : zG} {d : Nat} {C : zO} (hG : zGk g) (hC : zSound l g d C) {args : List Value} {Q : zQ} {Y : zY} {σ : zS} (hw : zb123 (zpg g) C args Q Y σ) : zMet l g (d + 1) (⟨"PackingDuel$State", "lambda$newMeasures$7", "(I)I"⟩, Cond.code ⟨"PackingDuel$State", "lambda$newMeasures$7", "(I)I"⟩ prog_20_method_37_code 2 (Option.some FieldType.int)) args σ Q Y := by
  obtain ⟨a0, x1, rfl, hw⟩ := hw
  refine zof hG (by decide +kernel) [false, false] ⟨rfl, rfl, trivial⟩ (Nat.le_of_ble_eq_true rfl) (ls := [some (va_rf (some a0)), some (.int x1)]) rfl ?_
  intro X hX hR hTb hd1 hd2 hl hg hnm
  subst hl
  subst hg
  have hd : zDep X d := ⟨hd1, hd2⟩
  refine z_aload_n hX dX2_lambda_newMeasures_7_0 rfl (i := 0) rfl ?_
  refine z_iload_n hX dX2_lambda_newMeasures_7_1 rfl (i := 1) rfl ?_
  obtain ⟨a4, f5, r6, m7, hw⟩ := hw
  refine z_invV hX hd r6 (ci := 1) rfl rfl m7 dX2_lambda_newMeasures_7_2 (hC 102 _ zm102 _ _ _ _ hw) q1736 q738 q739 zh2 q740 q131 zn102 rfl (Nat.le_of_ble_eq_true rfl) (st := []) rfl (zcs8 (Nat.le_of_ble_eq_true rfl)) rfl (zkI (fun v1 s2 hw => ?_)) (zout hX hR hTb)
  exact z_ireturn hX hR dX2_lambda_newMeasures_7_5 rfl hw
abbrev cX2_lambda_newMeasures_8 : ByteArray := prog_20_method_36_code
def yX2_lambda_newMeasures_8 : MethodName := ⟨RX2, "lambda$newMeasures$8", "(I)I"⟩
def dkwX2_lambda_newMeasures_8_0 : List UInt8 := [42, 27, 182, 1, 22, 153, 0, 7, 4, 167, 0, 4, 3, 184, 0, 130, 172]
abbrev dktX2_lambda_newMeasures_8_0 : List UInt8 := dkwX2_lambda_newMeasures_8_0 ++ []
theorem dksX2_lambda_newMeasures_8_0 : cX2_lambda_newMeasures_8.data.toList.drop 0 = dktX2_lambda_newMeasures_8_0 := by decide +kernel
theorem dX2_lambda_newMeasures_8_0 : decode cX2_lambda_newMeasures_8 0 = .ok (.aload_n 0, 1) := dk_42 (dk_at dksX2_lambda_newMeasures_8_0 0 rfl rfl)
theorem dX2_lambda_newMeasures_8_1 : decode cX2_lambda_newMeasures_8 1 = .ok (.iload_n 1, 1) := dk_27 (dk_at dksX2_lambda_newMeasures_8_0 1 rfl rfl)
theorem dX2_lambda_newMeasures_8_2 : decode cX2_lambda_newMeasures_8 2 = .ok (.invokevirtual 278, 3) := dk_182 1 22 (dk_at dksX2_lambda_newMeasures_8_0 2 rfl rfl)
theorem dX2_lambda_newMeasures_8_5 : decode cX2_lambda_newMeasures_8 5 = .ok (.ifCond .eq 7, 3) := dk_153 0 7 (dk_at dksX2_lambda_newMeasures_8_0 5 rfl rfl)
theorem dX2_lambda_newMeasures_8_8 : decode cX2_lambda_newMeasures_8 8 = .ok (.iconst 1, 1) := dk_4 (dk_at dksX2_lambda_newMeasures_8_0 8 rfl rfl)
theorem dX2_lambda_newMeasures_8_9 : decode cX2_lambda_newMeasures_8 9 = .ok (.goto 4, 3) := dk_167 0 4 (dk_at dksX2_lambda_newMeasures_8_0 9 rfl rfl)
theorem dX2_lambda_newMeasures_8_12 : decode cX2_lambda_newMeasures_8 12 = .ok (.iconst 0, 1) := dk_3 (dk_at dksX2_lambda_newMeasures_8_0 12 rfl rfl)
theorem dX2_lambda_newMeasures_8_13 : decode cX2_lambda_newMeasures_8 13 = .ok (.invokestatic 130, 3) := dk_184 0 130 (dk_at dksX2_lambda_newMeasures_8_0 13 rfl rfl)
theorem dX2_lambda_newMeasures_8_16 : decode cX2_lambda_newMeasures_8 16 = .ok (.ireturn, 1) := dk_172 (dk_at dksX2_lambda_newMeasures_8_0 16 rfl rfl)
/-- PackingDuel$State.lambda$newMeasures$8(I)I -/
def zb124 (G : zPg) (C : zO) (args : List Value) (Q : zQ) (Y : zY) (σ : zS) : Prop := ∃ (a0 : Nat) (x1 : Int32), args = [.ref a0, .int x1] ∧ (zrc σ (some a0) 1 (fun a4 => zcl C 104 [.ref a4, .int x1] Y σ (zqI (fun v1 s2 => zJ (fun (p8 : Int32) (s9 : zS) => zcl C 27 [.int p8] Y s9 (zqI (fun v11 s12 => Q (some (.int v11)) s12))) (fun (j10 : Int32 → zS → Prop) => ((v1 = 0) → j10 (0 : Int32) s2) ∧ ((¬ v1 = 0) → j10 (1 : Int32) s2))))))
set_option maxHeartbeats 4000000 in
theorem wk124 {l : Launch} {g : zG} {d : Nat} {C : zO} (hG : zGk g) (hC : zSound l g d C) {args : List Value} {Q : zQ} {Y : zY} {σ : zS} (hw : zb124 (zpg g) C args Q Y σ) : zMet l g (d + 1) (⟨"PackingDuel$State", "lambda$newMeasures$8", "(I)I"⟩, Cond.code ⟨"PackingDuel$State", "lambda$newMeasures$8", "(I)I"⟩ prog_20_method_36_code 2 (Option.some FieldType.int)) args σ Q Y := by
  obtain ⟨a0, x1, rfl, hw⟩ := hw
  refine zof hG (by decide +kernel) [false, false] ⟨rfl, rfl, trivial⟩ (Nat.le_of_ble_eq_true rfl) (ls := [some (va_rf (some a0)), some (.int x1)]) rfl ?_
  intro X hX hR hTb hd1 hd2 hl hg hnm
  subst hl
  subst hg
  have hd : zDep X d := ⟨hd1, hd2⟩
  refine z_aload_n hX dX2_lambda_newMeasures_8_0 rfl (i := 0) rfl ?_
  refine z_iload_n hX dX2_lambda_newMeasures_8_1 rfl (i := 1) rfl ?_
  obtain ⟨a4, f5, r6, m7, hw⟩ := hw
  refine z_invV hX hd r6 (ci := 1) rfl rfl m7 dX2_lambda_newMeasures_8_2 (hC 104 _ zm104 _ _ _ _ hw) q2424 q750 q751 zh2 q752 q131 zn104 rfl (Nat.le_of_ble_eq_true rfl) (st := []) rfl (zcs8 (Nat.le_of_ble_eq_true rfl)) rfl (zkI (fun v1 s2 hw => ?_)) (zout hX hR hTb)
  refine zJ_w (P := fun (j : Int32 → zS → Prop) => ∀ (p8 : Int32) (s9 : zS), j p8 s9 → zW X s9 13 [none, none] [.int p8]) hw (fun p8 s9 hw => ?_) (fun j10 hj10 hw => ?_)
  · refine z_invSN hX hd dX2_lambda_newMeasures_8_13 (hC 27 _ zm27 _ _ _ _ hw) q445 q446 zh1 q447 q130 zn27 rfl (Nat.le_of_ble_eq_true rfl) (st := []) rfl (zcs8 (Nat.le_of_ble_eq_true rfl)) rfl (zkI (fun v11 s12 hw => ?_)) (zout hX hR hTb)
    exact z_ireturn hX hR dX2_lambda_newMeasures_8_16 rfl hw
  · refine z_if_eq hX dX2_lambda_newMeasures_8_5 (tgt := 12) rfl (fun c14 => ?_) (fun c14 => ?_)
    · have hw := hw.1 c14
      refine z_iconst hX (v := (0 : Int32)) dX2_lambda_newMeasures_8_12 (by decide) ?_
      refine z_sub (ls' := [none, none]) (zsN (zsN (zs0))) ?_
      exact hj10 _ _ hw
    · have hw := hw.2 c14
      refine z_iconst hX (v := (1 : Int32)) dX2_lambda_newMeasures_8_8 (by decide) ?_
      refine z_goto hX dX2_lambda_newMeasures_8_9 (tgt := 13) rfl ?_
      refine z_sub (ls' := [none, none]) (zsN (zsN (zs0))) ?_
      exact hj10 _ _ hw
def RX4 : String := "PackingDuel$Scanner"
abbrev cX4_init : ByteArray := prog_19_method_1_code
def yX4_init : MethodName := ⟨RX4, "<init>", "(LPackingDuel;I)V"⟩
def dkwX4_init_1 : List UInt8 := [181, 0, 22, 42, 182, 0, 26, 177]
abbrev dktX4_init_1 : List UInt8 := dkwX4_init_1 ++ []
def dkwX4_init_0 : List UInt8 := [42, 43, 181, 0, 3, 42, 183, 0, 9, 42, 187, 0, 15, 89, 183, 0, 17, 181, 0, 18, 42, 28]
abbrev dktX4_init_0 : List UInt8 := dkwX4_init_0 ++ dktX4_init_1
theorem dksX4_init_0 : cX4_init.data.toList.drop 0 = dktX4_init_0 := by decide +kernel
theorem dksX4_init_1 : cX4_init.data.toList.drop 22 = dktX4_init_1 := dk_seg dksX4_init_0 22 rfl rfl
theorem dX4_init_0 : decode cX4_init 0 = .ok (.aload_n 0, 1) := dk_42 (dk_at dksX4_init_0 0 rfl rfl)
theorem dX4_init_1 : decode cX4_init 1 = .ok (.aload_n 1, 1) := dk_43 (dk_at dksX4_init_0 1 rfl rfl)
theorem dX4_init_2 : decode cX4_init 2 = .ok (.putfield 3, 3) := dk_181 0 3 (dk_at dksX4_init_0 2 rfl rfl)
theorem dX4_init_5 : decode cX4_init 5 = .ok (.aload_n 0, 1) := dk_42 (dk_at dksX4_init_0 5 rfl rfl)
theorem dX4_init_6 : decode cX4_init 6 = .ok (.invokespecial 9, 3) := dk_183 0 9 (dk_at dksX4_init_0 6 rfl rfl)
theorem dX4_init_9 : decode cX4_init 9 = .ok (.aload_n 0, 1) := dk_42 (dk_at dksX4_init_0 9 rfl rfl)
theorem dX4_init_10 : decode cX4_init 10 = .ok (.new 15, 3) := dk_187 0 15 (dk_at dksX4_init_0 10 rfl rfl)
theorem dX4_init_13 : decode cX4_init 13 = .ok (.dup, 1) := dk_89 (dk_at dksX4_init_0 13 rfl rfl)
theorem dX4_init_14 : decode cX4_init 14 = .ok (.invokespecial 17, 3) := dk_183 0 17 (dk_at dksX4_init_0 14 rfl rfl)
theorem dX4_init_17 : decode cX4_init 17 = .ok (.putfield 18, 3) := dk_181 0 18 (dk_at dksX4_init_0 17 rfl rfl)
theorem dX4_init_20 : decode cX4_init 20 = .ok (.aload_n 0, 1) := dk_42 (dk_at dksX4_init_0 20 rfl rfl)
theorem dX4_init_21 : decode cX4_init 21 = .ok (.iload_n 2, 1) := dk_28 (dk_at dksX4_init_0 21 rfl rfl)
theorem dX4_init_22 : decode cX4_init 22 = .ok (.putfield 22, 3) := dk_181 0 22 (dk_at dksX4_init_1 0 rfl rfl)
theorem dX4_init_25 : decode cX4_init 25 = .ok (.aload_n 0, 1) := dk_42 (dk_at dksX4_init_1 3 rfl rfl)
theorem dX4_init_26 : decode cX4_init 26 = .ok (.invokevirtual 26, 3) := dk_182 0 26 (dk_at dksX4_init_1 4 rfl rfl)
theorem dX4_init_29 : decode cX4_init 29 = .ok (.return_, 1) := dk_177 (dk_at dksX4_init_1 7 rfl rfl)
/-- PackingDuel$Scanner.<init>(LPackingDuel;I)V -/
def zb310 (G : zPg) (C : zO) (args : List Value) (Q : zQ) (Y : zY) (σ : zS) : Prop := ∃ (a0 : Nat) (x1 : Option Nat) (x2 : Int32), args = [.ref a0, va_rf x1, .int x2] ∧ (zputM σ G.1 (some a0) [7, 26] 7 (va_rf x1) (fun s1 => (∃ a11, (some a0) = some a11 ∧ znew s1 8 [va_rf none, .int 0, .int 0, .int 0] 4 (fun s13 => (∃ a19, (some s1.2.1) = some a19 ∧ zcl C 346 [.ref a19] Y s13 (zqV (fun s17 => zputM s17 G.1 (some a0) [7, 26] 0 (va_rf (some s1.2.1)) (fun s21 => zputM s21 G.1 (some a0) [7, 26] 1 (.int x2) (fun s31 => zJ (fun (s42 : zS) => Q none s42) (fun (j44 : zS → Prop) => zrcM s31 (some a0) [7, 26] (fun a45 c46 => (c46 = 7 → zcl C 311 [.ref a45] Y s31 (zqV j44)) ∧ (c46 = 26 → zcl C 311 [.ref a45] Y s31 (zqV j44)))))))))))))
set_option maxHeartbeats 4000000 in
theorem wk310 {l : Launch} {g : zG} {d : Nat} {C : zO} (hG : zGk g) (hC : zSound l g d C) {args : List Value} {Q : zQ} {Y : zY} {σ : zS} (hw : zb310 (zpg g) C args Q Y σ) : zMet l g (d + 1) (⟨"PackingDuel$Scanner", "<init>", "(LPackingDuel;I)V"⟩, Cond.code ⟨"PackingDuel$Scanner", "<init>", "(LPackingDuel;I)V"⟩ prog_19_method_1_code 3 (Option.none : Option FieldType)) args σ Q Y := by
  obtain ⟨a0, x1, x2, rfl, hw⟩ := hw
  refine zof hG (by decide +kernel) [false, false, false] ⟨rfl, (zc_rf _), rfl, trivial⟩ (Nat.le_of_ble_eq_true rfl) (ls := [some (va_rf (some a0)), some (va_rf x1), some (.int x2)]) rfl ?_
  intro X hX hR hTb hd1 hd2 hl hg hnm
  subst hl
  subst hg
  have hd : zDep X d := ⟨hd1, hd2⟩
  refine z_aload_n hX dX4_init_0 rfl (i := 0) rfl ?_
  refine z_aload_n hX dX4_init_1 rfl (i := 1) rfl ?_
  obtain ⟨a3, c9, f4, r5, h10, g6, m7, l8, hw⟩ := hw
  refine z_putFM hX (tf := (.object "PackingDuel")) (cs := [7, 26]) (k := 7) (t := ("PackingDuel$Scanner", "this$0", "LPackingDuel;", true)) dX4_init_2 (zfa1 ⟨_, _, _, _, zc7, (Nat.le_of_ble_eq_true rfl), rfl⟩ (zfa1 ⟨_, _, _, _, zc26, (Nat.le_of_ble_eq_true rfl), rfl⟩ (zfa0))) q1388 rfl hnm rfl (by decide +kernel) (zn_o _ _) (zf_o _ _) r5 h10 g6 m7 l8 (z_nm (fun s1 e2 => ?_))
  have hw := hw s1 e2
  refine z_aload_n hX dX4_init_5 rfl (i := 0) rfl ?_
  obtain ⟨a11, r12, hw⟩ := hw
  refine z_oinit hX hd dX4_init_6 q1093 q191 q192 r12 rfl (zcs8 (Nat.le_of_ble_eq_true rfl)) ?_
  refine z_aload_n hX dX4_init_9 rfl (i := 0) rfl ?_
  refine z_new hX zc8 dX4_init_10 q1094 q1095 q145 (fs := [va_rf none, .int 0, .int 0, .int 0]) (fun j hj => by have hj : j < 4 := hj; exact zdf8 j hj) hw.1 hw.2.1 (fun z14 => z_nm (fun s13 e15 => ?_))
  have hw := hw.2.2 z14 s13 e15
  refine z_dup hX dX4_init_13 (zc_rf _) ?_
  obtain ⟨a19, r20, hw⟩ := hw
  refine z_invI hX hd r20 dX4_init_14 (hC 346 _ zm346 _ _ _ _ hw) q1096 q1097 rfl zh16 q1098 q145 zn346 rfl (Nat.le_of_ble_eq_true rfl) (st := [va_rf (some s1.2.1), va_rf (some a0)]) rfl (zcs8 (Nat.le_of_ble_eq_true rfl)) rfl (zkV (fun s17 hw => ?_)) (zout hX hR hTb)
  obtain ⟨a23, c29, f24, r25, h30, g26, m27, l28, hw⟩ := hw
  refine z_putFM hX (tf := (.object "java/lang/StringBuilder")) (cs := [7, 26]) (k := 0) (t := ("PackingDuel$Scanner", "word", "Ljava/lang/StringBuilder;", true)) dX4_init_17 (zfa1 ⟨_, _, _, _, zc7, (Nat.le_of_ble_eq_true rfl), rfl⟩ (zfa1 ⟨_, _, _, _, zc26, (Nat.le_of_ble_eq_true rfl), rfl⟩ (zfa0))) q1377 rfl hnm rfl (by decide +kernel) (zn_o _ _) (zf_o _ _) r25 h30 g26 m27 l28 (z_nm (fun s21 e22 => ?_))
  have hw := hw s21 e22
  refine z_aload_n hX dX4_init_20 rfl (i := 0) rfl ?_
  refine z_iload_n hX dX4_init_21 rfl (i := 2) rfl ?_
  obtain ⟨a33, c39, f34, r35, h40, g36, m37, l38, hw⟩ := hw
  refine z_putFM hX (tf := .int) (cs := [7, 26]) (k := 1) (t := ("PackingDuel$Scanner", "end", "I", true)) dX4_init_22 (zfa1 ⟨_, _, _, _, zc7, (Nat.le_of_ble_eq_true rfl), rfl⟩ (zfa1 ⟨_, _, _, _, zc26, (Nat.le_of_ble_eq_true rfl), rfl⟩ (zfa0))) q1378 rfl hnm rfl (by decide +kernel) rfl rfl r35 h40 g36 m37 l38 (z_nm (fun s31 e32 => ?_))
  have hw := hw s31 e32
  refine z_aload_n hX dX4_init_25 rfl (i := 0) rfl ?_
  refine zJ_v (P := fun (j : zS → Prop) => ∀ (s42 : zS), j s42 → zW X s42 29 [some (va_rf (some a0)), some (va_rf x1), some (.int x2)] []) hw (fun j44 hj44 hw => ?_) (fun s42 hw => ?_)
  · obtain ⟨a45, c46, f47, r48, h49, m50, hw⟩ := hw
    simp only [List.mem_cons, List.not_mem_nil, or_false] at h49
    rcases h49 with rfl | rfl
    · have hw := hw.1 rfl
      refine z_invV hX hd r48 (ci := 7) rfl rfl m50 dX4_init_26 (hC 311 _ zm311 _ _ _ _ hw) q1125 q1126 q1128 zh13 q1130 q142 zn311 rfl (Nat.le_of_ble_eq_true rfl) (st := []) rfl (zcs8 (Nat.le_of_ble_eq_true rfl)) rfl (zkV (fun s42 hw => ?_)) (zout hX hR hTb)
      exact hj44 _ hw
    · have hw := hw.2 rfl
      refine z_invV hX hd r48 (ci := 26) rfl rfl m50 dX4_init_26 (hC 311 _ zm311 _ _ _ _ hw) q1125 q1126 q1129 zh13 q1130 q142 zn311 rfl (Nat.le_of_ble_eq_true rfl) (st := []) rfl (zcs8 (Nat.le_of_ble_eq_true rfl)) rfl (zkV (fun s42 hw => ?_)) (zout hX hR hTb)
      exact hj44 _ hw
  exact z_return hX hR dX4_init_29 hw
abbrev cX4_next : ByteArray := prog_19_method_5_code
def yX4_next : MethodName := ⟨RX4, "next", "()V"⟩
def dkwX4_next_10 : List UInt8 := [181, 0, 83, 42, 178, 0, 86, 181, 0, 53, 42, 89, 180, 0, 33, 4, 96, 181, 0, 33, 177]
abbrev dktX4_next_10 : List UInt8 := dkwX4_next_10 ++ []
def dkwX4_next_9 : List UInt8 := [180, 0, 33, 4, 96, 181, 0, 33, 167, 255, 204, 42, 178, 0, 80, 181, 0, 53, 167, 0, 25, 42, 27]
abbrev dktX4_next_9 : List UInt8 := dkwX4_next_9 ++ dktX4_next_10
def dkwX4_next_8 : List UInt8 := [180, 0, 70, 104, 42, 42, 180, 0, 33, 182, 0, 36, 96, 16, 48, 100, 184, 0, 74, 181, 0, 70, 42, 89]
abbrev dktX4_next_8 : List UInt8 := dkwX4_next_8 ++ dktX4_next_9
def dkwX4_next_7 : List UInt8 := [3, 181, 0, 70, 42, 42, 180, 0, 33, 182, 0, 36, 184, 0, 67, 153, 0, 44, 42, 18, 73, 16, 10, 42]
abbrev dktX4_next_7 : List UInt8 := dkwX4_next_7 ++ dktX4_next_8
def dkwX4_next_6 : List UInt8 := [181, 0, 33, 167, 255, 215, 42, 178, 0, 64, 181, 0, 53, 167, 0, 102, 27, 184, 0, 67, 153, 0, 73, 42]
abbrev dktX4_next_6 : List UInt8 := dkwX4_next_6 ++ dktX4_next_7
def dkwX4_next_5 : List UInt8 := [42, 180, 0, 18, 42, 42, 180, 0, 33, 182, 0, 36, 146, 182, 0, 60, 87, 42, 89, 180, 0, 33, 4, 96]
abbrev dktX4_next_5 : List UInt8 := dkwX4_next_5 ++ dktX4_next_6
def dkwX4_next_4 : List UInt8 := [167, 0, 163, 27, 184, 0, 56, 153, 0, 57, 42, 42, 180, 0, 33, 182, 0, 36, 184, 0, 56, 153, 0, 33]
abbrev dktX4_next_4 : List UInt8 := dkwX4_next_4 ++ dktX4_next_5
def dkwX4_next_3 : List UInt8 := [182, 0, 36, 60, 42, 180, 0, 33, 42, 180, 0, 22, 161, 0, 13, 42, 178, 0, 47, 181, 0, 53]
abbrev dktX4_next_3 : List UInt8 := dkwX4_next_3 ++ dktX4_next_4
def dkwX4_next_2 : List UInt8 := [167, 255, 209, 42, 42, 180, 0, 33, 181, 0, 40, 42, 180, 0, 18, 3, 182, 0, 43, 42, 42, 180, 0, 33]
abbrev dktX4_next_2 : List UInt8 := dkwX4_next_2 ++ dktX4_next_3
def dkwX4_next_1 : List UInt8 := [42, 42, 180, 0, 33, 182, 0, 36, 16, 10, 160, 0, 16, 42, 89, 180, 0, 33, 4, 96, 181, 0, 33]
abbrev dktX4_next_1 : List UInt8 := dkwX4_next_1 ++ dktX4_next_2
def dkwX4_next_0 : List UInt8 := [42, 180, 0, 33, 42, 180, 0, 22, 162, 0, 42, 42, 42, 180, 0, 33, 182, 0, 36, 16, 32, 159, 0, 16]
abbrev dktX4_next_0 : List UInt8 := dkwX4_next_0 ++ dktX4_next_1
theorem dksX4_next_0 : cX4_next.data.toList.drop 0 = dktX4_next_0 := by decide +kernel
theorem dksX4_next_1 : cX4_next.data.toList.drop 24 = dktX4_next_1 := dk_seg dksX4_next_0 24 rfl rfl
theorem dksX4_next_2 : cX4_next.data.toList.drop 47 = dktX4_next_2 := dk_seg dksX4_next_1 23 rfl rfl
theorem dksX4_next_3 : cX4_next.data.toList.drop 71 = dktX4_next_3 := dk_seg dksX4_next_2 24 rfl rfl
theorem dksX4_next_4 : cX4_next.data.toList.drop 93 = dktX4_next_4 := dk_seg dksX4_next_3 22 rfl rfl
theorem dksX4_next_5 : cX4_next.data.toList.drop 117 = dktX4_next_5 := dk_seg dksX4_next_4 24 rfl rfl
theorem dksX4_next_6 : cX4_next.data.toList.drop 141 = dktX4_next_6 := dk_seg dksX4_next_5 24 rfl rfl
theorem dksX4_next_7 : cX4_next.data.toList.drop 165 = dktX4_next_7 := dk_seg dksX4_next_6 24 rfl rfl
theorem dksX4_next_8 : cX4_next.data.toList.drop 189 = dktX4_next_8 := dk_seg dksX4_next_7 24 rfl rfl
theorem dksX4_next_9 : cX4_next.data.toList.drop 213 = dktX4_next_9 := dk_seg dksX4_next_8 24 rfl rfl
theorem dksX4_next_10 : cX4_next.data.toList.drop 236 = dktX4_next_10 := dk_seg dksX4_next_9 23 rfl rfl
theorem dX4_next_0 : decode cX4_next 0 = .ok (.aload_n 0, 1) := dk_42 (dk_at dksX4_next_0 0 rfl rfl)
theorem dX4_next_1 : decode cX4_next 1 = .ok (.getfield 33, 3) := dk_180 0 33 (dk_at dksX4_next_0 1 rfl rfl)
theorem dX4_next_4 : decode cX4_next 4 = .ok (.aload_n 0, 1) := dk_42 (dk_at dksX4_next_0 4 rfl rfl)
theorem dX4_next_5 : decode cX4_next 5 = .ok (.getfield 22, 3) := dk_180 0 22 (dk_at dksX4_next_0 5 rfl rfl)
theorem dX4_next_8 : decode cX4_next 8 = .ok (.if_icmp .ge 42, 3) := dk_162 0 42 (dk_at dksX4_next_0 8 rfl rfl)
theorem dX4_next_11 : decode cX4_next 11 = .ok (.aload_n 0, 1) := dk_42 (dk_at dksX4_next_0 11 rfl rfl)
theorem dX4_next_12 : decode cX4_next 12 = .ok (.aload_n 0, 1) := dk_42 (dk_at dksX4_next_0 12 rfl rfl)
theorem dX4_next_13 : decode cX4_next 13 = .ok (.getfield 33, 3) := dk_180 0 33 (dk_at dksX4_next_0 13 rfl rfl)
theorem dX4_next_16 : decode cX4_next 16 = .ok (.invokevirtual 36, 3) := dk_182 0 36 (dk_at dksX4_next_0 16 rfl rfl)
theorem dX4_next_19 : decode cX4_next 19 = .ok (.bipush 32, 2) := dk_16 32 (dk_at dksX4_next_0 19 rfl rfl)
theorem dX4_next_21 : decode cX4_next 21 = .ok (.if_icmp .eq 16, 3) := dk_159 0 16 (dk_at dksX4_next_0 21 rfl rfl)
theorem dX4_next_24 : decode cX4_next 24 = .ok (.aload_n 0, 1) := dk_42 (dk_at dksX4_next_1 0 rfl rfl)
theorem dX4_next_25 : decode cX4_next 25 = .ok (.aload_n 0, 1) := dk_42 (dk_at dksX4_next_1 1 rfl rfl)
theorem dX4_next_26 : decode cX4_next 26 = .ok (.getfield 33, 3) := dk_180 0 33 (dk_at dksX4_next_1 2 rfl rfl)
theorem dX4_next_29 : decode cX4_next 29 = .ok (.invokevirtual 36, 3) := dk_182 0 36 (dk_at dksX4_next_1 5 rfl rfl)
theorem dX4_next_32 : decode cX4_next 32 = .ok (.bipush 10, 2) := dk_16 10 (dk_at dksX4_next_1 8 rfl rfl)
theorem dX4_next_34 : decode cX4_next 34 = .ok (.if_icmp .ne 16, 3) := dk_160 0 16 (dk_at dksX4_next_1 10 rfl rfl)
theorem dX4_next_37 : decode cX4_next 37 = .ok (.aload_n 0, 1) := dk_42 (dk_at dksX4_next_1 13 rfl rfl)
theorem dX4_next_38 : decode cX4_next 38 = .ok (.dup, 1) := dk_89 (dk_at dksX4_next_1 14 rfl rfl)
theorem dX4_next_39 : decode cX4_next 39 = .ok (.getfield 33, 3) := dk_180 0 33 (dk_at dksX4_next_1 15 rfl rfl)
theorem dX4_next_42 : decode cX4_next 42 = .ok (.iconst 1, 1) := dk_4 (dk_at dksX4_next_1 18 rfl rfl)
theorem dX4_next_43 : decode cX4_next 43 = .ok (.iadd, 1) := dk_96 (dk_at dksX4_next_1 19 rfl rfl)
theorem dX4_next_44 : decode cX4_next 44 = .ok (.putfield 33, 3) := dk_181 0 33 (dk_at dksX4_next_1 20 rfl rfl)
theorem dX4_next_47 : decode cX4_next 47 = .ok (.goto (-47), 3) := dk_167 255 209 (dk_at dksX4_next_2 0 rfl rfl)
theorem dX4_next_50 : decode cX4_next 50 = .ok (.aload_n 0, 1) := dk_42 (dk_at dksX4_next_2 3 rfl rfl)
theorem dX4_next_51 : decode cX4_next 51 = .ok (.aload_n 0, 1) := dk_42 (dk_at dksX4_next_2 4 rfl rfl)
theorem dX4_next_52 : decode cX4_next 52 = .ok (.getfield 33, 3) := dk_180 0 33 (dk_at dksX4_next_2 5 rfl rfl)
theorem dX4_next_55 : decode cX4_next 55 = .ok (.putfield 40, 3) := dk_181 0 40 (dk_at dksX4_next_2 8 rfl rfl)
theorem dX4_next_58 : decode cX4_next 58 = .ok (.aload_n 0, 1) := dk_42 (dk_at dksX4_next_2 11 rfl rfl)
theorem dX4_next_59 : decode cX4_next 59 = .ok (.getfield 18, 3) := dk_180 0 18 (dk_at dksX4_next_2 12 rfl rfl)
theorem dX4_next_62 : decode cX4_next 62 = .ok (.iconst 0, 1) := dk_3 (dk_at dksX4_next_2 15 rfl rfl)
theorem dX4_next_63 : decode cX4_next 63 = .ok (.invokevirtual 43, 3) := dk_182 0 43 (dk_at dksX4_next_2 16 rfl rfl)
theorem dX4_next_66 : decode cX4_next 66 = .ok (.aload_n 0, 1) := dk_42 (dk_at dksX4_next_2 19 rfl rfl)
theorem dX4_next_67 : decode cX4_next 67 = .ok (.aload_n 0, 1) := dk_42 (dk_at dksX4_next_2 20 rfl rfl)
theorem dX4_next_68 : decode cX4_next 68 = .ok (.getfield 33, 3) := dk_180 0 33 (dk_at dksX4_next_2 21 rfl rfl)
theorem dX4_next_71 : decode cX4_next 71 = .ok (.invokevirtual 36, 3) := dk_182 0 36 (dk_at dksX4_next_3 0 rfl rfl)
theorem dX4_next_74 : decode cX4_next 74 = .ok (.istore_n 1, 1) := dk_60 (dk_at dksX4_next_3 3 rfl rfl)
theorem dX4_next_75 : decode cX4_next 75 = .ok (.aload_n 0, 1) := dk_42 (dk_at dksX4_next_3 4 rfl rfl)
theorem dX4_next_76 : decode cX4_next 76 = .ok (.getfield 33, 3) := dk_180 0 33 (dk_at dksX4_next_3 5 rfl rfl)
theorem dX4_next_79 : decode cX4_next 79 = .ok (.aload_n 0, 1) := dk_42 (dk_at dksX4_next_3 8 rfl rfl)
theorem dX4_next_80 : decode cX4_next 80 = .ok (.getfield 22, 3) := dk_180 0 22 (dk_at dksX4_next_3 9 rfl rfl)
theorem dX4_next_83 : decode cX4_next 83 = .ok (.if_icmp .lt 13, 3) := dk_161 0 13 (dk_at dksX4_next_3 12 rfl rfl)
theorem dX4_next_86 : decode cX4_next 86 = .ok (.aload_n 0, 1) := dk_42 (dk_at dksX4_next_3 15 rfl rfl)
theorem dX4_next_87 : decode cX4_next 87 = .ok (.getstatic 47, 3) := dk_178 0 47 (dk_at dksX4_next_3 16 rfl rfl)
theorem dX4_next_90 : decode cX4_next 90 = .ok (.putfield 53, 3) := dk_181 0 53 (dk_at dksX4_next_3 19 rfl rfl)
theorem dX4_next_93 : decode cX4_next 93 = .ok (.goto 163, 3) := dk_167 0 163 (dk_at dksX4_next_4 0 rfl rfl)
theorem dX4_next_96 : decode cX4_next 96 = .ok (.iload_n 1, 1) := dk_27 (dk_at dksX4_next_4 3 rfl rfl)
theorem dX4_next_97 : decode cX4_next 97 = .ok (.invokestatic 56, 3) := dk_184 0 56 (dk_at dksX4_next_4 4 rfl rfl)
theorem dX4_next_100 : decode cX4_next 100 = .ok (.ifCond .eq 57, 3) := dk_153 0 57 (dk_at dksX4_next_4 7 rfl rfl)
theorem dX4_next_103 : decode cX4_next 103 = .ok (.aload_n 0, 1) := dk_42 (dk_at dksX4_next_4 10 rfl rfl)
theorem dX4_next_104 : decode cX4_next 104 = .ok (.aload_n 0, 1) := dk_42 (dk_at dksX4_next_4 11 rfl rfl)
theorem dX4_next_105 : decode cX4_next 105 = .ok (.getfield 33, 3) := dk_180 0 33 (dk_at dksX4_next_4 12 rfl rfl)
theorem dX4_next_108 : decode cX4_next 108 = .ok (.invokevirtual 36, 3) := dk_182 0 36 (dk_at dksX4_next_4 15 rfl rfl)
theorem dX4_next_111 : decode cX4_next 111 = .ok (.invokestatic 56, 3) := dk_184 0 56 (dk_at dksX4_next_4 18 rfl rfl)
theorem dX4_next_114 : decode cX4_next 114 = .ok (.ifCond .eq 33, 3) := dk_153 0 33 (dk_at dksX4_next_4 21 rfl rfl)
theorem dX4_next_117 : decode cX4_next 117 = .ok (.aload_n 0, 1) := dk_42 (dk_at dksX4_next_5 0 rfl rfl)
theorem dX4_next_118 : decode cX4_next 118 = .ok (.getfield 18, 3) := dk_180 0 18 (dk_at dksX4_next_5 1 rfl rfl)
theorem dX4_next_121 : decode cX4_next 121 = .ok (.aload_n 0, 1) := dk_42 (dk_at dksX4_next_5 4 rfl rfl)
theorem dX4_next_122 : decode cX4_next 122 = .ok (.aload_n 0, 1) := dk_42 (dk_at dksX4_next_5 5 rfl rfl)
theorem dX4_next_123 : decode cX4_next 123 = .ok (.getfield 33, 3) := dk_180 0 33 (dk_at dksX4_next_5 6 rfl rfl)
theorem dX4_next_126 : decode cX4_next 126 = .ok (.invokevirtual 36, 3) := dk_182 0 36 (dk_at dksX4_next_5 9 rfl rfl)
theorem dX4_next_129 : decode cX4_next 129 = .ok (.i2c, 1) := dk_146 (dk_at dksX4_next_5 12 rfl rfl)
theorem dX4_next_130 : decode cX4_next 130 = .ok (.invokevirtual 60, 3) := dk_182 0 60 (dk_at dksX4_next_5 13 rfl rfl)
theorem dX4_next_133 : decode cX4_next 133 = .ok (.pop, 1) := dk_87 (dk_at dksX4_next_5 16 rfl rfl)
theorem dX4_next_134 : decode cX4_next 134 = .ok (.aload_n 0, 1) := dk_42 (dk_at dksX4_next_5 17 rfl rfl)
theorem dX4_next_135 : decode cX4_next 135 = .ok (.dup, 1) := dk_89 (dk_at dksX4_next_5 18 rfl rfl)
theorem dX4_next_136 : decode cX4_next 136 = .ok (.getfield 33, 3) := dk_180 0 33 (dk_at dksX4_next_5 19 rfl rfl)
theorem dX4_next_139 : decode cX4_next 139 = .ok (.iconst 1, 1) := dk_4 (dk_at dksX4_next_5 22 rfl rfl)
theorem dX4_next_140 : decode cX4_next 140 = .ok (.iadd, 1) := dk_96 (dk_at dksX4_next_5 23 rfl rfl)
theorem dX4_next_141 : decode cX4_next 141 = .ok (.putfield 33, 3) := dk_181 0 33 (dk_at dksX4_next_6 0 rfl rfl)
theorem dX4_next_144 : decode cX4_next 144 = .ok (.goto (-41), 3) := dk_167 255 215 (dk_at dksX4_next_6 3 rfl rfl)
theorem dX4_next_147 : decode cX4_next 147 = .ok (.aload_n 0, 1) := dk_42 (dk_at dksX4_next_6 6 rfl rfl)
theorem dX4_next_148 : decode cX4_next 148 = .ok (.getstatic 64, 3) := dk_178 0 64 (dk_at dksX4_next_6 7 rfl rfl)
theorem dX4_next_151 : decode cX4_next 151 = .ok (.putfield 53, 3) := dk_181 0 53 (dk_at dksX4_next_6 10 rfl rfl)
theorem dX4_next_154 : decode cX4_next 154 = .ok (.goto 102, 3) := dk_167 0 102 (dk_at dksX4_next_6 13 rfl rfl)
theorem dX4_next_157 : decode cX4_next 157 = .ok (.iload_n 1, 1) := dk_27 (dk_at dksX4_next_6 16 rfl rfl)
theorem dX4_next_158 : decode cX4_next 158 = .ok (.invokestatic 67, 3) := dk_184 0 67 (dk_at dksX4_next_6 17 rfl rfl)
theorem dX4_next_161 : decode cX4_next 161 = .ok (.ifCond .eq 73, 3) := dk_153 0 73 (dk_at dksX4_next_6 20 rfl rfl)
theorem dX4_next_164 : decode cX4_next 164 = .ok (.aload_n 0, 1) := dk_42 (dk_at dksX4_next_6 23 rfl rfl)
theorem dX4_next_165 : decode cX4_next 165 = .ok (.iconst 0, 1) := dk_3 (dk_at dksX4_next_7 0 rfl rfl)
theorem dX4_next_166 : decode cX4_next 166 = .ok (.putfield 70, 3) := dk_181 0 70 (dk_at dksX4_next_7 1 rfl rfl)
theorem dX4_next_169 : decode cX4_next 169 = .ok (.aload_n 0, 1) := dk_42 (dk_at dksX4_next_7 4 rfl rfl)
theorem dX4_next_170 : decode cX4_next 170 = .ok (.aload_n 0, 1) := dk_42 (dk_at dksX4_next_7 5 rfl rfl)
theorem dX4_next_171 : decode cX4_next 171 = .ok (.getfield 33, 3) := dk_180 0 33 (dk_at dksX4_next_7 6 rfl rfl)
theorem dX4_next_174 : decode cX4_next 174 = .ok (.invokevirtual 36, 3) := dk_182 0 36 (dk_at dksX4_next_7 9 rfl rfl)
theorem dX4_next_177 : decode cX4_next 177 = .ok (.invokestatic 67, 3) := dk_184 0 67 (dk_at dksX4_next_7 12 rfl rfl)
theorem dX4_next_180 : decode cX4_next 180 = .ok (.ifCond .eq 44, 3) := dk_153 0 44 (dk_at dksX4_next_7 15 rfl rfl)
theorem dX4_next_183 : decode cX4_next 183 = .ok (.aload_n 0, 1) := dk_42 (dk_at dksX4_next_7 18 rfl rfl)
theorem dX4_next_184 : decode cX4_next 184 = .ok (.ldc 73, 2) := dk_18 73 (dk_at dksX4_next_7 19 rfl rfl)
theorem dX4_next_186 : decode cX4_next 186 = .ok (.bipush 10, 2) := dk_16 10 (dk_at dksX4_next_7 21 rfl rfl)
theorem dX4_next_188 : decode cX4_next 188 = .ok (.aload_n 0, 1) := dk_42 (dk_at dksX4_next_7 23 rfl rfl)
theorem dX4_next_189 : decode cX4_next 189 = .ok (.getfield 70, 3) := dk_180 0 70 (dk_at dksX4_next_8 0 rfl rfl)
theorem dX4_next_192 : decode cX4_next 192 = .ok (.imul, 1) := dk_104 (dk_at dksX4_next_8 3 rfl rfl)
theorem dX4_next_193 : decode cX4_next 193 = .ok (.aload_n 0, 1) := dk_42 (dk_at dksX4_next_8 4 rfl rfl)
theorem dX4_next_194 : decode cX4_next 194 = .ok (.aload_n 0, 1) := dk_42 (dk_at dksX4_next_8 5 rfl rfl)
theorem dX4_next_195 : decode cX4_next 195 = .ok (.getfield 33, 3) := dk_180 0 33 (dk_at dksX4_next_8 6 rfl rfl)
theorem dX4_next_198 : decode cX4_next 198 = .ok (.invokevirtual 36, 3) := dk_182 0 36 (dk_at dksX4_next_8 9 rfl rfl)
theorem dX4_next_201 : decode cX4_next 201 = .ok (.iadd, 1) := dk_96 (dk_at dksX4_next_8 12 rfl rfl)
theorem dX4_next_202 : decode cX4_next 202 = .ok (.bipush 48, 2) := dk_16 48 (dk_at dksX4_next_8 13 rfl rfl)
theorem dX4_next_204 : decode cX4_next 204 = .ok (.isub, 1) := dk_100 (dk_at dksX4_next_8 15 rfl rfl)
theorem dX4_next_205 : decode cX4_next 205 = .ok (.invokestatic 74, 3) := dk_184 0 74 (dk_at dksX4_next_8 16 rfl rfl)
theorem dX4_next_208 : decode cX4_next 208 = .ok (.putfield 70, 3) := dk_181 0 70 (dk_at dksX4_next_8 19 rfl rfl)
theorem dX4_next_211 : decode cX4_next 211 = .ok (.aload_n 0, 1) := dk_42 (dk_at dksX4_next_8 22 rfl rfl)
theorem dX4_next_212 : decode cX4_next 212 = .ok (.dup, 1) := dk_89 (dk_at dksX4_next_8 23 rfl rfl)
theorem dX4_next_213 : decode cX4_next 213 = .ok (.getfield 33, 3) := dk_180 0 33 (dk_at dksX4_next_9 0 rfl rfl)
theorem dX4_next_216 : decode cX4_next 216 = .ok (.iconst 1, 1) := dk_4 (dk_at dksX4_next_9 3 rfl rfl)
theorem dX4_next_217 : decode cX4_next 217 = .ok (.iadd, 1) := dk_96 (dk_at dksX4_next_9 4 rfl rfl)
theorem dX4_next_218 : decode cX4_next 218 = .ok (.putfield 33, 3) := dk_181 0 33 (dk_at dksX4_next_9 5 rfl rfl)
theorem dX4_next_221 : decode cX4_next 221 = .ok (.goto (-52), 3) := dk_167 255 204 (dk_at dksX4_next_9 8 rfl rfl)
theorem dX4_next_224 : decode cX4_next 224 = .ok (.aload_n 0, 1) := dk_42 (dk_at dksX4_next_9 11 rfl rfl)
theorem dX4_next_225 : decode cX4_next 225 = .ok (.getstatic 80, 3) := dk_178 0 80 (dk_at dksX4_next_9 12 rfl rfl)
theorem dX4_next_228 : decode cX4_next 228 = .ok (.putfield 53, 3) := dk_181 0 53 (dk_at dksX4_next_9 15 rfl rfl)
theorem dX4_next_231 : decode cX4_next 231 = .ok (.goto 25, 3) := dk_167 0 25 (dk_at dksX4_next_9 18 rfl rfl)
theorem dX4_next_234 : decode cX4_next 234 = .ok (.aload_n 0, 1) := dk_42 (dk_at dksX4_next_9 21 rfl rfl)
theorem dX4_next_235 : decode cX4_next 235 = .ok (.iload_n 1, 1) := dk_27 (dk_at dksX4_next_9 22 rfl rfl)
theorem dX4_next_236 : decode cX4_next 236 = .ok (.putfield 83, 3) := dk_181 0 83 (dk_at dksX4_next_10 0 rfl rfl)
theorem dX4_next_239 : decode cX4_next 239 = .ok (.aload_n 0, 1) := dk_42 (dk_at dksX4_next_10 3 rfl rfl)
theorem dX4_next_240 : decode cX4_next 240 = .ok (.getstatic 86, 3) := dk_178 0 86 (dk_at dksX4_next_10 4 rfl rfl)
theorem dX4_next_243 : decode cX4_next 243 = .ok (.putfield 53, 3) := dk_181 0 53 (dk_at dksX4_next_10 7 rfl rfl)
theorem dX4_next_246 : decode cX4_next 246 = .ok (.aload_n 0, 1) := dk_42 (dk_at dksX4_next_10 10 rfl rfl)
theorem dX4_next_247 : decode cX4_next 247 = .ok (.dup, 1) := dk_89 (dk_at dksX4_next_10 11 rfl rfl)
theorem dX4_next_248 : decode cX4_next 248 = .ok (.getfield 33, 3) := dk_180 0 33 (dk_at dksX4_next_10 12 rfl rfl)
theorem dX4_next_251 : decode cX4_next 251 = .ok (.iconst 1, 1) := dk_4 (dk_at dksX4_next_10 15 rfl rfl)
theorem dX4_next_252 : decode cX4_next 252 = .ok (.iadd, 1) := dk_96 (dk_at dksX4_next_10 16 rfl rfl)
theorem dX4_next_253 : decode cX4_next 253 = .ok (.putfield 33, 3) := dk_181 0 33 (dk_at dksX4_next_10 17 rfl rfl)
theorem dX4_next_256 : decode cX4_next 256 = .ok (.return_, 1) := dk_177 (dk_at dksX4_next_10 20 rfl rfl)
/-- PackingDuel$Scanner.next()V -/
def zb311 (G : zPg) (C : zO) (args : List Value) (Q : zQ) (Y : zY) (σ : zS) : Prop := ∃ (a0 : Nat), args = [.ref a0] ∧ (∃ n, zIt (fun  _ => False) (fun rec2  (s1 : zS) => zgIM s1 (some a0) [7, 26] 2 (fun v3 => zgIM s1 (some a0) [7, 26] 1 (fun v11 => zJ (fun  (s19 : zS) => zgIM s19 (some a0) [7, 26] 2 (fun v21 => zputM s19 G.1 (some a0) [7, 26] 3 (.int v21) (fun s29 => zgRM s29 (some a0) [7, 26] 0 (fun v39 => zrc s29 v39 8 (fun a50 => zcl C 347 [.ref a50, .int (0 : Int32)] Y s29 (zqV (fun s48 => zgIM s48 (some a0) [7, 26] 2 (fun v54 => zJ (fun (v62 : Int32) (s63 : zS) => zgIM s63 (some a0) [7, 26] 2 (fun v72 => zgIM s63 (some a0) [7, 26] 1 (fun v80 => zJ (fun  (s88 : zS) => Q none s88) (fun (j89 : zS → Prop) => ((v72 < v80) → zcl C 313 [.int v62] Y s63 (zqI (fun v91 s92 => ((v91 = 0) → zcl C 314 [.int v62] Y s92 (zqI (fun v95 s96 => ((v95 = 0) → zputM s96 G.1 (some a0) [7, 26] 5 (.int v62) (fun s99 => zputM s99 G.1 (some a0) [7, 26] 6 (va_rf (some (G.2 52))) (fun s109 => zgIM s109 (some a0) [7, 26] 2 (fun v119 => zputM s109 G.1 (some a0) [7, 26] 2 (.int (v119 + (1 : Int32))) (fun s127 => j89 s127))))) ∧ ((¬ v95 = 0) → zputM s96 G.1 (some a0) [7, 26] 4 (.int (0 : Int32)) (fun s137 => ∃ n, zIt (fun  _ => False) (fun rec148  (s147 : zS) => zgIM s147 (some a0) [7, 26] 2 (fun v149 => zJ (fun (v157 : Int32) (s158 : zS) => zcl C 314 [.int v157] Y s158 (zqI (fun v167 s168 => ((v167 = 0) → zputM s168 G.1 (some a0) [7, 26] 6 (va_rf (some (G.2 51))) (fun s171 => j89 s171)) ∧ ((¬ v167 = 0) → zgIM s168 (some a0) [7, 26] 4 (fun v181 => zgIM s168 (some a0) [7, 26] 2 (fun v189 => zJ (fun (v197 : Int32) (s198 : zS) => (∀ v207 : Int32, v207 = ((((10 : Int32) * v181) + v197) - (48 : Int32)) → zcl C 295 [.int (100000000 : Int32), .int v207] Y s198 (zqI (fun v209 s210 => zputM s210 G.1 (some a0) [7, 26] 4 (.int v209) (fun s212 => zgIM s212 (some a0) [7, 26] 2 (fun v222 => zputM s212 G.1 (some a0) [7, 26] 2 (.int (v222 + (1 : Int32))) (fun s230 => rec148 s230))))))) (fun (j200 : Int32 → zS → Prop) => zrcM s168 (some a0) [7, 26] (fun a201 c202 => (c202 = 7 → zcl C 312 [.ref a201, .int v189] Y s168 (zqI j200)) ∧ (c202 = 26 → zcl C 312 [.ref a201, .int v189] Y s168 (zqI j200)))))))))) (fun (j160 : Int32 → zS → Prop) => zrcM s147 (some a0) [7, 26] (fun a161 c162 => (c162 = 7 → zcl C 312 [.ref a161, .int v149] Y s147 (zqI j160)) ∧ (c162 = 26 → zcl C 312 [.ref a161, .int v149] Y s147 (zqI j160)))))) n  s137))))) ∧ ((¬ v91 = 0) → ∃ n, zIt (fun  _ => False) (fun rec242  (s241 : zS) => zgIM s241 (some a0) [7, 26] 2 (fun v243 => zJ (fun (v251 : Int32) (s252 : zS) => zcl C 313 [.int v251] Y s252 (zqI (fun v261 s262 => ((v261 = 0) → zputM s262 G.1 (some a0) [7, 26] 6 (va_rf (some (G.2 50))) (fun s265 => j89 s265)) ∧ ((¬ v261 = 0) → zgRM s262 (some a0) [7, 26] 0 (fun v275 => zgIM s262 (some a0) [7, 26] 2 (fun v283 => zJ (fun (v291 : Int32) (s292 : zS) => zrc s292 v275 8 (fun a304 => zcl C 352 [.ref a304, .int ((v291.toUInt32 % 65536).toInt32)] Y s292 (zqR (fun v301 s302 => zgIM s302 (some a0) [7, 26] 2 (fun v308 => zputM s302 G.1 (some a0) [7, 26] 2 (.int (v308 + (1 : Int32))) (fun s316 => rec242 s316)))))) (fun (j294 : Int32 → zS → Prop) => zrcM s262 (some a0) [7, 26] (fun a295 c296 => (c296 = 7 → zcl C 312 [.ref a295, .int v283] Y s262 (zqI j294)) ∧ (c296 = 26 → zcl C 312 [.ref a295, .int v283] Y s262 (zqI j294)))))))))) (fun (j254 : Int32 → zS → Prop) => zrcM s241 (some a0) [7, 26] (fun a255 c256 => (c256 = 7 → zcl C 312 [.ref a255, .int v243] Y s241 (zqI j254)) ∧ (c256 = 26 → zcl C 312 [.ref a255, .int v243] Y s241 (zqI j254)))))) n  s92)))) ∧ ((¬ v72 < v80) → zputM s63 G.1 (some a0) [7, 26] 6 (va_rf (some (G.2 53))) (fun s327 => j89 s327)))))) (fun (j65 : Int32 → zS → Prop) => zrcM s48 (some a0) [7, 26] (fun a66 c67 => (c67 = 7 → zcl C 312 [.ref a66, .int v54] Y s48 (zqI j65)) ∧ (c67 = 26 → zcl C 312 [.ref a66, .int v54] Y s48 (zqI j65)))))))))))) (fun (j20 : zS → Prop) => ((v11 ≤ v3) → j20 s1) ∧ ((¬ v11 ≤ v3) → zgIM s1 (some a0) [7, 26] 2 (fun v338 => zJ (fun (v346 : Int32) (s347 : zS) => zJ (fun  (s356 : zS) => zgIM s356 (some a0) [7, 26] 2 (fun v358 => zputM s356 G.1 (some a0) [7, 26] 2 (.int (v358 + (1 : Int32))) (fun s366 => rec2 s366))) (fun (j357 : zS → Prop) => ((v346 = (32 : Int32)) → j357 s347) ∧ ((¬ v346 = (32 : Int32)) → zgIM s347 (some a0) [7, 26] 2 (fun v377 => zJ (fun (v385 : Int32) (s386 : zS) => ((¬ v385 = (10 : Int32)) → j20 s386) ∧ ((v385 = (10 : Int32)) → j357 s386)) (fun (j388 : Int32 → zS → Prop) => zrcM s347 (some a0) [7, 26] (fun a389 c390 => (c390 = 7 → zcl C 312 [.ref a389, .int v377] Y s347 (zqI j388)) ∧ (c390 = 26 → zcl C 312 [.ref a389, .int v377] Y s347 (zqI j388)))))))) (fun (j349 : Int32 → zS → Prop) => zrcM s1 (some a0) [7, 26] (fun a350 c351 => (c351 = 7 → zcl C 312 [.ref a350, .int v338] Y s1 (zqI j349)) ∧ (c351 = 26 → zcl C 312 [.ref a350, .int v338] Y s1 (zqI j349)))))))))) n  σ)
set_option maxHeartbeats 4000000 in
theorem wk311 {l : Launch} {g : zG} {d : Nat} {C : zO} (hG : zGk g) (hC : zSound l g d C) {args : List Value} {Q : zQ} {Y : zY} {σ : zS} (hw : zb311 (zpg g) C args Q Y σ) : zMet l g (d + 1) (⟨"PackingDuel$Scanner", "next", "()V"⟩, Cond.code ⟨"PackingDuel$Scanner", "next", "()V"⟩ prog_19_method_5_code 2 (Option.none : Option FieldType)) args σ Q Y := by
  obtain ⟨a0, rfl, hw⟩ := hw
  refine zof hG (by decide +kernel) [false] ⟨rfl, trivial⟩ (Nat.le_of_ble_eq_true rfl) (ls := [some (va_rf (some a0)), none]) rfl ?_
  intro X hX hR hTb hd1 hd2 hl hg hnm
  subst hl
  subst hg
  have hd : zDep X d := ⟨hd1, hd2⟩
  obtain ⟨n396, hw⟩ := hw
  refine zIt_w (P := fun (j : zS → Prop) => ∀  (s1 : zS), j  s1 → zW X s1 0 [some (va_rf (some a0)), none] []) (fun  _ h => h.elim) (fun rec2 hrec2  s1 hw => ?_) n396  _ hw
  refine z_aload_n hX dX4_next_0 rfl (i := 0) rfl ?_
  obtain ⟨a4, c9, f5, v3, r6, h10, m7, e8, hw⟩ := hw
  refine z_getM hX (cs := [7, 26]) (k := 2) (t := ("PackingDuel$Scanner", "at", "I", false)) dX4_next_1 (zfa1 ⟨_, _, _, _, zc7, (Nat.le_of_ble_eq_true rfl), rfl⟩ (zfa1 ⟨_, _, _, _, zc26, (Nat.le_of_ble_eq_true rfl), rfl⟩ (zfa0))) (zlk hX q1379) r6 h10 m7 e8 ?_
  refine z_aload_n hX dX4_next_4 rfl (i := 0) rfl ?_
  obtain ⟨a12, c17, f13, v11, r14, h18, m15, e16, hw⟩ := hw
  refine z_getM hX (cs := [7, 26]) (k := 1) (t := ("PackingDuel$Scanner", "end", "I", true)) dX4_next_5 (zfa1 ⟨_, _, _, _, zc7, (Nat.le_of_ble_eq_true rfl), rfl⟩ (zfa1 ⟨_, _, _, _, zc26, (Nat.le_of_ble_eq_true rfl), rfl⟩ (zfa0))) (zlk hX q1378) r14 h18 m15 e16 ?_
  refine zJ_w (P := fun (j : zS → Prop) => ∀  (s19 : zS), j  s19 → zW X s19 50 [some (va_rf (some a0)), none] []) hw (fun  s19 hw => ?_) (fun j20 hj20 hw => ?_)
  · refine z_aload_n hX dX4_next_50 rfl (i := 0) rfl ?_
    refine z_aload_n hX dX4_next_51 rfl (i := 0) rfl ?_
    obtain ⟨a22, c27, f23, v21, r24, h28, m25, e26, hw⟩ := hw
    refine z_getM hX (cs := [7, 26]) (k := 2) (t := ("PackingDuel$Scanner", "at", "I", false)) dX4_next_52 (zfa1 ⟨_, _, _, _, zc7, (Nat.le_of_ble_eq_true rfl), rfl⟩ (zfa1 ⟨_, _, _, _, zc26, (Nat.le_of_ble_eq_true rfl), rfl⟩ (zfa0))) (zlk hX q1379) r24 h28 m25 e26 ?_
    obtain ⟨a31, c37, f32, r33, h38, g34, m35, l36, hw⟩ := hw
    refine z_putM hX (tf := .int) (cs := [7, 26]) (k := 3) (t := ("PackingDuel$Scanner", "begin", "I", false)) dX4_next_55 (zfa1 ⟨_, _, _, _, zc7, (Nat.le_of_ble_eq_true rfl), rfl⟩ (zfa1 ⟨_, _, _, _, zc26, (Nat.le_of_ble_eq_true rfl), rfl⟩ (zfa0))) (zlk hX q1380) rfl (by decide +kernel) rfl rfl r33 h38 g34 m35 l36 (z_nm (fun s29 e30 => ?_))
    have hw := hw s29 e30
    refine z_aload_n hX dX4_next_58 rfl (i := 0) rfl ?_
    obtain ⟨a40, c45, f41, v39, r42, h46, m43, e44, hw⟩ := hw
    refine z_getM hX (cs := [7, 26]) (k := 0) (t := ("PackingDuel$Scanner", "word", "Ljava/lang/StringBuilder;", true)) dX4_next_59 (zfa1 ⟨_, _, _, _, zc7, (Nat.le_of_ble_eq_true rfl), rfl⟩ (zfa1 ⟨_, _, _, _, zc26, (Nat.le_of_ble_eq_true rfl), rfl⟩ (zfa0))) (zlk hX q1377) r42 h46 m43 e44 ?_
    refine z_iconst hX (v := (0 : Int32)) dX4_next_62 (by decide) ?_
    obtain ⟨a50, f51, r52, m53, hw⟩ := hw
    refine z_invV hX hd r52 (ci := 8) rfl rfl m53 dX4_next_63 (hC 347 _ zm347 _ _ _ _ hw) q1135 q1136 q1137 zh16 q1138 q145 zn347 rfl (Nat.le_of_ble_eq_true rfl) (st := []) rfl (zcs8 (Nat.le_of_ble_eq_true rfl)) rfl (zkV (fun s48 hw => ?_)) (zout hX hR hTb)
    refine z_aload_n hX dX4_next_66 rfl (i := 0) rfl ?_
    refine z_aload_n hX dX4_next_67 rfl (i := 0) rfl ?_
    obtain ⟨a55, c60, f56, v54, r57, h61, m58, e59, hw⟩ := hw
    refine z_getM hX (cs := [7, 26]) (k := 2) (t := ("PackingDuel$Scanner", "at", "I", false)) dX4_next_68 (zfa1 ⟨_, _, _, _, zc7, (Nat.le_of_ble_eq_true rfl), rfl⟩ (zfa1 ⟨_, _, _, _, zc26, (Nat.le_of_ble_eq_true rfl), rfl⟩ (zfa0))) (zlk hX q1379) r57 h61 m58 e59 ?_
    refine zJ_v (P := fun (j : Int32 → zS → Prop) => ∀ (v62 : Int32) (s63 : zS), j v62 s63 → zW X s63 74 [some (va_rf (some a0)), none] [.int v62]) hw (fun j65 hj65 hw => ?_) (fun v62 s63 hw => ?_)
    · obtain ⟨a66, c67, f68, r69, h70, m71, hw⟩ := hw
      simp only [List.mem_cons, List.not_mem_nil, or_false] at h70
      rcases h70 with rfl | rfl
      · have hw := hw.1 rfl
        refine z_invVP hX hd r69 (ci := 7) rfl rfl m71 dX4_next_71 (hC 312 _ zm312 _ _ _ _ hw) q1131 q1133 (z_selP hX (ci := 7) rfl q1132 q1133 zh13 q1128 rfl) zh13 q1134 q142 zn312 rfl (Nat.le_of_ble_eq_true rfl) (st := []) rfl (zcs8 (Nat.le_of_ble_eq_true rfl)) rfl (zkI (fun v62 s63 hw => ?_)) (zout hX hR hTb)
        exact hj65 _ _ hw
      · have hw := hw.2 rfl
        refine z_invVP hX hd r69 (ci := 26) rfl rfl m71 dX4_next_71 (hC 312 _ zm312 _ _ _ _ hw) q1131 q1133 (z_selP hX (ci := 26) rfl q1132 q1133 zh13 q1128 rfl) zh13 q1134 q142 zn312 rfl (Nat.le_of_ble_eq_true rfl) (st := []) rfl (zcs8 (Nat.le_of_ble_eq_true rfl)) rfl (zkI (fun v62 s63 hw => ?_)) (zout hX hR hTb)
        exact hj65 _ _ hw
    refine z_istore_n hX dX4_next_74 rfl (i := 1) (Nat.le_of_ble_eq_true rfl) (zc_rf _) (ls2 := [some (va_rf (some a0)), some (.int v62)]) rfl ?_
    refine z_aload_n hX dX4_next_75 rfl (i := 0) rfl ?_
    obtain ⟨a73, c78, f74, v72, r75, h79, m76, e77, hw⟩ := hw
    refine z_getM hX (cs := [7, 26]) (k := 2) (t := ("PackingDuel$Scanner", "at", "I", false)) dX4_next_76 (zfa1 ⟨_, _, _, _, zc7, (Nat.le_of_ble_eq_true rfl), rfl⟩ (zfa1 ⟨_, _, _, _, zc26, (Nat.le_of_ble_eq_true rfl), rfl⟩ (zfa0))) (zlk hX q1379) r75 h79 m76 e77 ?_
    refine z_aload_n hX dX4_next_79 rfl (i := 0) rfl ?_
    obtain ⟨a81, c86, f82, v80, r83, h87, m84, e85, hw⟩ := hw
    refine z_getM hX (cs := [7, 26]) (k := 1) (t := ("PackingDuel$Scanner", "end", "I", true)) dX4_next_80 (zfa1 ⟨_, _, _, _, zc7, (Nat.le_of_ble_eq_true rfl), rfl⟩ (zfa1 ⟨_, _, _, _, zc26, (Nat.le_of_ble_eq_true rfl), rfl⟩ (zfa0))) (zlk hX q1378) r83 h87 m84 e85 ?_
    refine zJ_w (P := fun (j : zS → Prop) => ∀  (s88 : zS), j  s88 → zW X s88 256 [none, none] []) hw (fun  s88 hw => ?_) (fun j89 hj89 hw => ?_)
    · exact z_return hX hR dX4_next_256 hw
    · refine z_icmp_lt hX dX4_next_83 (tgt := 96) rfl (fun c90 => ?_) (fun c90 => ?_)
      · have hw := hw.1 c90
        refine z_iload_n hX dX4_next_96 rfl (i := 1) rfl ?_
        refine z_invS hX hd dX4_next_97 (hC 313 _ zm313 _ _ _ _ hw) q1346 q1347 zh13 q1348 q142 zn313 rfl (Nat.le_of_ble_eq_true rfl) (st := []) rfl (zcs8 (Nat.le_of_ble_eq_true rfl)) rfl (zkI (fun v91 s92 hw => ?_)) (zout hX hR hTb)
        refine z_if_eq hX dX4_next_100 (tgt := 157) rfl (fun c94 => ?_) (fun c94 => ?_)
        · have hw := hw.1 c94
          refine z_iload_n hX dX4_next_157 rfl (i := 1) rfl ?_
          refine z_invS hX hd dX4_next_158 (hC 314 _ zm314 _ _ _ _ hw) q1364 q1365 zh13 q1366 q142 zn314 rfl (Nat.le_of_ble_eq_true rfl) (st := []) rfl (zcs8 (Nat.le_of_ble_eq_true rfl)) rfl (zkI (fun v95 s96 hw => ?_)) (zout hX hR hTb)
          refine z_if_eq hX dX4_next_161 (tgt := 234) rfl (fun c98 => ?_) (fun c98 => ?_)
          · have hw := hw.1 c98
            refine z_aload_n hX dX4_next_234 rfl (i := 0) rfl ?_
            refine z_iload_n hX dX4_next_235 rfl (i := 1) rfl ?_
            obtain ⟨a101, c107, f102, r103, h108, g104, m105, l106, hw⟩ := hw
            refine z_putM hX (tf := .int) (cs := [7, 26]) (k := 5) (t := ("PackingDuel$Scanner", "sign", "I", false)) dX4_next_236 (zfa1 ⟨_, _, _, _, zc7, (Nat.le_of_ble_eq_true rfl), rfl⟩ (zfa1 ⟨_, _, _, _, zc26, (Nat.le_of_ble_eq_true rfl), rfl⟩ (zfa0))) (zlk hX q1382) rfl (by decide +kernel) rfl rfl r103 h108 g104 m105 l106 (z_nm (fun s99 e100 => ?_))
            have hw := hw s99 e100
            refine z_aload_n hX dX4_next_239 rfl (i := 0) rfl ?_
            refine z_gets hX dX4_next_240 (List.mem_of_getElem? (i := 2) rfl) q1371 rfl ?_
            show zW _ _ _ _ (va_rf (some (X.g.2.2.2 52)) :: _)
            obtain ⟨a111, c117, f112, r113, h118, g114, m115, l116, hw⟩ := hw
            refine z_putM hX (tf := (.object "PackingDuel$Token")) (cs := [7, 26]) (k := 6) (t := ("PackingDuel$Scanner", "token", "LPackingDuel$Token;", false)) dX4_next_243 (zfa1 ⟨_, _, _, _, zc7, (Nat.le_of_ble_eq_true rfl), rfl⟩ (zfa1 ⟨_, _, _, _, zc26, (Nat.le_of_ble_eq_true rfl), rfl⟩ (zfa0))) (zlk hX q1387) rfl (by decide +kernel) (zn_o _ _) (zf_o _ _) r113 h118 g114 m115 l116 (z_nm (fun s109 e110 => ?_))
            have hw := hw s109 e110
            refine z_aload_n hX dX4_next_246 rfl (i := 0) rfl ?_
            refine z_dup hX dX4_next_247 (zc_rf _) ?_
            obtain ⟨a120, c125, f121, v119, r122, h126, m123, e124, hw⟩ := hw
            refine z_getM hX (cs := [7, 26]) (k := 2) (t := ("PackingDuel$Scanner", "at", "I", false)) dX4_next_248 (zfa1 ⟨_, _, _, _, zc7, (Nat.le_of_ble_eq_true rfl), rfl⟩ (zfa1 ⟨_, _, _, _, zc26, (Nat.le_of_ble_eq_true rfl), rfl⟩ (zfa0))) (zlk hX q1379) r122 h126 m123 e124 ?_
            refine z_iconst hX (v := (1 : Int32)) dX4_next_251 (by decide) ?_
            refine z_iadd hX dX4_next_252 ?_
            obtain ⟨a129, c135, f130, r131, h136, g132, m133, l134, hw⟩ := hw
            refine z_putM hX (tf := .int) (cs := [7, 26]) (k := 2) (t := ("PackingDuel$Scanner", "at", "I", false)) dX4_next_253 (zfa1 ⟨_, _, _, _, zc7, (Nat.le_of_ble_eq_true rfl), rfl⟩ (zfa1 ⟨_, _, _, _, zc26, (Nat.le_of_ble_eq_true rfl), rfl⟩ (zfa0))) (zlk hX q1379) rfl (by decide +kernel) rfl rfl r131 h136 g132 m133 l134 (z_nm (fun s127 e128 => ?_))
            have hw := hw s127 e128
            refine z_sub (ls' := [none, none]) (zsN (zsN (zs0))) ?_
            exact hj89  _ hw
          · have hw := hw.2 c98
            refine z_aload_n hX dX4_next_164 rfl (i := 0) rfl ?_
            refine z_iconst hX (v := (0 : Int32)) dX4_next_165 (by decide) ?_
            obtain ⟨a139, c145, f140, r141, h146, g142, m143, l144, hw⟩ := hw
            refine z_putM hX (tf := .int) (cs := [7, 26]) (k := 4) (t := ("PackingDuel$Scanner", "value", "I", false)) dX4_next_166 (zfa1 ⟨_, _, _, _, zc7, (Nat.le_of_ble_eq_true rfl), rfl⟩ (zfa1 ⟨_, _, _, _, zc26, (Nat.le_of_ble_eq_true rfl), rfl⟩ (zfa0))) (zlk hX q1381) rfl (by decide +kernel) rfl rfl r141 h146 g142 m143 l144 (z_nm (fun s137 e138 => ?_))
            have hw := hw s137 e138
            obtain ⟨n240, hw⟩ := hw
            refine z_sub (ls' := [some (va_rf (some a0)), none]) (zsS (zsN (zs0))) ?_
            refine zIt_w (P := fun (j : zS → Prop) => ∀  (s147 : zS), j  s147 → zW X s147 169 [some (va_rf (some a0)), none] []) (fun  _ h => h.elim) (fun rec148 hrec148  s147 hw => ?_) n240  _ hw
            refine z_aload_n hX dX4_next_169 rfl (i := 0) rfl ?_
            refine z_aload_n hX dX4_next_170 rfl (i := 0) rfl ?_
            obtain ⟨a150, c155, f151, v149, r152, h156, m153, e154, hw⟩ := hw
            refine z_getM hX (cs := [7, 26]) (k := 2) (t := ("PackingDuel$Scanner", "at", "I", false)) dX4_next_171 (zfa1 ⟨_, _, _, _, zc7, (Nat.le_of_ble_eq_true rfl), rfl⟩ (zfa1 ⟨_, _, _, _, zc26, (Nat.le_of_ble_eq_true rfl), rfl⟩ (zfa0))) (zlk hX q1379) r152 h156 m153 e154 ?_
            refine zJ_v (P := fun (j : Int32 → zS → Prop) => ∀ (v157 : Int32) (s158 : zS), j v157 s158 → zW X s158 177 [some (va_rf (some a0)), none] [.int v157]) hw (fun j160 hj160 hw => ?_) (fun v157 s158 hw => ?_)
            · obtain ⟨a161, c162, f163, r164, h165, m166, hw⟩ := hw
              simp only [List.mem_cons, List.not_mem_nil, or_false] at h165
              rcases h165 with rfl | rfl
              · have hw := hw.1 rfl
                refine z_invVP hX hd r164 (ci := 7) rfl rfl m166 dX4_next_174 (hC 312 _ zm312 _ _ _ _ hw) q1131 q1133 (z_selP hX (ci := 7) rfl q1132 q1133 zh13 q1128 rfl) zh13 q1134 q142 zn312 rfl (Nat.le_of_ble_eq_true rfl) (st := []) rfl (zcs8 (Nat.le_of_ble_eq_true rfl)) rfl (zkI (fun v157 s158 hw => ?_)) (zout hX hR hTb)
                exact hj160 _ _ hw
              · have hw := hw.2 rfl
                refine z_invVP hX hd r164 (ci := 26) rfl rfl m166 dX4_next_174 (hC 312 _ zm312 _ _ _ _ hw) q1131 q1133 (z_selP hX (ci := 26) rfl q1132 q1133 zh13 q1128 rfl) zh13 q1134 q142 zn312 rfl (Nat.le_of_ble_eq_true rfl) (st := []) rfl (zcs8 (Nat.le_of_ble_eq_true rfl)) rfl (zkI (fun v157 s158 hw => ?_)) (zout hX hR hTb)
                exact hj160 _ _ hw
            refine z_invS hX hd dX4_next_177 (hC 314 _ zm314 _ _ _ _ hw) q1364 q1365 zh13 q1366 q142 zn314 rfl (Nat.le_of_ble_eq_true rfl) (st := []) rfl (zcs8 (Nat.le_of_ble_eq_true rfl)) rfl (zkI (fun v167 s168 hw => ?_)) (zout hX hR hTb)
            refine z_if_eq hX dX4_next_180 (tgt := 224) rfl (fun c170 => ?_) (fun c170 => ?_)
            · have hw := hw.1 c170
              refine z_aload_n hX dX4_next_224 rfl (i := 0) rfl ?_
              refine z_gets hX dX4_next_225 (List.mem_of_getElem? (i := 1) rfl) q1369 rfl ?_
              show zW _ _ _ _ (va_rf (some (X.g.2.2.2 51)) :: _)
              obtain ⟨a173, c179, f174, r175, h180, g176, m177, l178, hw⟩ := hw
              refine z_putM hX (tf := (.object "PackingDuel$Token")) (cs := [7, 26]) (k := 6) (t := ("PackingDuel$Scanner", "token", "LPackingDuel$Token;", false)) dX4_next_228 (zfa1 ⟨_, _, _, _, zc7, (Nat.le_of_ble_eq_true rfl), rfl⟩ (zfa1 ⟨_, _, _, _, zc26, (Nat.le_of_ble_eq_true rfl), rfl⟩ (zfa0))) (zlk hX q1387) rfl (by decide +kernel) (zn_o _ _) (zf_o _ _) r175 h180 g176 m177 l178 (z_nm (fun s171 e172 => ?_))
              have hw := hw s171 e172
              refine z_goto hX dX4_next_231 (tgt := 256) rfl ?_
              refine z_sub (ls' := [none, none]) (zsN (zsN (zs0))) ?_
              exact hj89  _ hw
            · have hw := hw.2 c170
              refine z_aload_n hX dX4_next_183 rfl (i := 0) rfl ?_
              refine z_ldc hX dX4_next_184 q1367 ?_
              refine z_bipush hX (v := (10 : Int32)) dX4_next_186 (by decide) ?_
              refine z_aload_n hX dX4_next_188 rfl (i := 0) rfl ?_
              obtain ⟨a182, c187, f183, v181, r184, h188, m185, e186, hw⟩ := hw
              refine z_getM hX (cs := [7, 26]) (k := 4) (t := ("PackingDuel$Scanner", "value", "I", false)) dX4_next_189 (zfa1 ⟨_, _, _, _, zc7, (Nat.le_of_ble_eq_true rfl), rfl⟩ (zfa1 ⟨_, _, _, _, zc26, (Nat.le_of_ble_eq_true rfl), rfl⟩ (zfa0))) (zlk hX q1381) r184 h188 m185 e186 ?_
              refine z_imul hX dX4_next_192 ?_
              refine z_aload_n hX dX4_next_193 rfl (i := 0) rfl ?_
              refine z_aload_n hX dX4_next_194 rfl (i := 0) rfl ?_
              obtain ⟨a190, c195, f191, v189, r192, h196, m193, e194, hw⟩ := hw
              refine z_getM hX (cs := [7, 26]) (k := 2) (t := ("PackingDuel$Scanner", "at", "I", false)) dX4_next_195 (zfa1 ⟨_, _, _, _, zc7, (Nat.le_of_ble_eq_true rfl), rfl⟩ (zfa1 ⟨_, _, _, _, zc26, (Nat.le_of_ble_eq_true rfl), rfl⟩ (zfa0))) (zlk hX q1379) r192 h196 m193 e194 ?_
              refine zJ_v (P := fun (j : Int32 → zS → Prop) => ∀ (v197 : Int32) (s198 : zS), j v197 s198 → zW X s198 201 [some (va_rf (some a0)), none] [.int v197, .int ((10 : Int32) * v181), .int (100000000 : Int32), va_rf (some a0)]) hw (fun j200 hj200 hw => ?_) (fun v197 s198 hw => ?_)
              · obtain ⟨a201, c202, f203, r204, h205, m206, hw⟩ := hw
                simp only [List.mem_cons, List.not_mem_nil, or_false] at h205
                rcases h205 with rfl | rfl
                · have hw := hw.1 rfl
                  refine z_invVP hX hd r204 (ci := 7) rfl rfl m206 dX4_next_198 (hC 312 _ zm312 _ _ _ _ hw) q1131 q1133 (z_selP hX (ci := 7) rfl q1132 q1133 zh13 q1128 rfl) zh13 q1134 q142 zn312 rfl (Nat.le_of_ble_eq_true rfl) (st := [.int ((10 : Int32) * v181), .int (100000000 : Int32), va_rf (some a0)]) rfl (zcs8 (Nat.le_of_ble_eq_true rfl)) rfl (zkI (fun v197 s198 hw => ?_)) (zout hX hR hTb)
                  exact hj200 _ _ hw
                · have hw := hw.2 rfl
                  refine z_invVP hX hd r204 (ci := 26) rfl rfl m206 dX4_next_198 (hC 312 _ zm312 _ _ _ _ hw) q1131 q1133 (z_selP hX (ci := 26) rfl q1132 q1133 zh13 q1128 rfl) zh13 q1134 q142 zn312 rfl (Nat.le_of_ble_eq_true rfl) (st := [.int ((10 : Int32) * v181), .int (100000000 : Int32), va_rf (some a0)]) rfl (zcs8 (Nat.le_of_ble_eq_true rfl)) rfl (zkI (fun v197 s198 hw => ?_)) (zout hX hR hTb)
                  exact hj200 _ _ hw
              refine z_iadd hX dX4_next_201 ?_
              refine z_bipush hX (v := (48 : Int32)) dX4_next_202 (by decide) ?_
              refine z_isub hX dX4_next_204 ?_
              refine z_topi (fun v207 e208 => ?_)
              have hw := hw v207 e208
              refine z_invS hX hd dX4_next_205 (hC 295 _ zm295 _ _ _ _ hw) q1368 q479 zh8 q480 q137 zn295 rfl (Nat.le_of_ble_eq_true rfl) (st := [va_rf (some a0)]) rfl (zcs8 (Nat.le_of_ble_eq_true rfl)) rfl (zkI (fun v209 s210 hw => ?_)) (zout hX hR hTb)
              obtain ⟨a214, c220, f215, r216, h221, g217, m218, l219, hw⟩ := hw
              refine z_putM hX (tf := .int) (cs := [7, 26]) (k := 4) (t := ("PackingDuel$Scanner", "value", "I", false)) dX4_next_208 (zfa1 ⟨_, _, _, _, zc7, (Nat.le_of_ble_eq_true rfl), rfl⟩ (zfa1 ⟨_, _, _, _, zc26, (Nat.le_of_ble_eq_true rfl), rfl⟩ (zfa0))) (zlk hX q1381) rfl (by decide +kernel) rfl rfl r216 h221 g217 m218 l219 (z_nm (fun s212 e213 => ?_))
              have hw := hw s212 e213
              refine z_aload_n hX dX4_next_211 rfl (i := 0) rfl ?_
              refine z_dup hX dX4_next_212 (zc_rf _) ?_
              obtain ⟨a223, c228, f224, v222, r225, h229, m226, e227, hw⟩ := hw
              refine z_getM hX (cs := [7, 26]) (k := 2) (t := ("PackingDuel$Scanner", "at", "I", false)) dX4_next_213 (zfa1 ⟨_, _, _, _, zc7, (Nat.le_of_ble_eq_true rfl), rfl⟩ (zfa1 ⟨_, _, _, _, zc26, (Nat.le_of_ble_eq_true rfl), rfl⟩ (zfa0))) (zlk hX q1379) r225 h229 m226 e227 ?_
              refine z_iconst hX (v := (1 : Int32)) dX4_next_216 (by decide) ?_
              refine z_iadd hX dX4_next_217 ?_
              obtain ⟨a232, c238, f233, r234, h239, g235, m236, l237, hw⟩ := hw
              refine z_putM hX (tf := .int) (cs := [7, 26]) (k := 2) (t := ("PackingDuel$Scanner", "at", "I", false)) dX4_next_218 (zfa1 ⟨_, _, _, _, zc7, (Nat.le_of_ble_eq_true rfl), rfl⟩ (zfa1 ⟨_, _, _, _, zc26, (Nat.le_of_ble_eq_true rfl), rfl⟩ (zfa0))) (zlk hX q1379) rfl (by decide +kernel) rfl rfl r234 h239 g235 m236 l237 (z_nm (fun s230 e231 => ?_))
              have hw := hw s230 e231
              refine z_goto hX dX4_next_221 (tgt := 169) rfl ?_
              exact hrec148  _ hw
        · have hw := hw.2 c94
          obtain ⟨n326, hw⟩ := hw
          refine z_sub (ls' := [some (va_rf (some a0)), none]) (zsS (zsN (zs0))) ?_
          refine zIt_w (P := fun (j : zS → Prop) => ∀  (s241 : zS), j  s241 → zW X s241 103 [some (va_rf (some a0)), none] []) (fun  _ h => h.elim) (fun rec242 hrec242  s241 hw => ?_) n326  _ hw
          refine z_aload_n hX dX4_next_103 rfl (i := 0) rfl ?_
          refine z_aload_n hX dX4_next_104 rfl (i := 0) rfl ?_
          obtain ⟨a244, c249, f245, v243, r246, h250, m247, e248, hw⟩ := hw
          refine z_getM hX (cs := [7, 26]) (k := 2) (t := ("PackingDuel$Scanner", "at", "I", false)) dX4_next_105 (zfa1 ⟨_, _, _, _, zc7, (Nat.le_of_ble_eq_true rfl), rfl⟩ (zfa1 ⟨_, _, _, _, zc26, (Nat.le_of_ble_eq_true rfl), rfl⟩ (zfa0))) (zlk hX q1379) r246 h250 m247 e248 ?_
          refine zJ_v (P := fun (j : Int32 → zS → Prop) => ∀ (v251 : Int32) (s252 : zS), j v251 s252 → zW X s252 111 [some (va_rf (some a0)), none] [.int v251]) hw (fun j254 hj254 hw => ?_) (fun v251 s252 hw => ?_)
          · obtain ⟨a255, c256, f257, r258, h259, m260, hw⟩ := hw
            simp only [List.mem_cons, List.not_mem_nil, or_false] at h259
            rcases h259 with rfl | rfl
            · have hw := hw.1 rfl
              refine z_invVP hX hd r258 (ci := 7) rfl rfl m260 dX4_next_108 (hC 312 _ zm312 _ _ _ _ hw) q1131 q1133 (z_selP hX (ci := 7) rfl q1132 q1133 zh13 q1128 rfl) zh13 q1134 q142 zn312 rfl (Nat.le_of_ble_eq_true rfl) (st := []) rfl (zcs8 (Nat.le_of_ble_eq_true rfl)) rfl (zkI (fun v251 s252 hw => ?_)) (zout hX hR hTb)
              exact hj254 _ _ hw
            · have hw := hw.2 rfl
              refine z_invVP hX hd r258 (ci := 26) rfl rfl m260 dX4_next_108 (hC 312 _ zm312 _ _ _ _ hw) q1131 q1133 (z_selP hX (ci := 26) rfl q1132 q1133 zh13 q1128 rfl) zh13 q1134 q142 zn312 rfl (Nat.le_of_ble_eq_true rfl) (st := []) rfl (zcs8 (Nat.le_of_ble_eq_true rfl)) rfl (zkI (fun v251 s252 hw => ?_)) (zout hX hR hTb)
              exact hj254 _ _ hw
          refine z_invS hX hd dX4_next_111 (hC 313 _ zm313 _ _ _ _ hw) q1346 q1347 zh13 q1348 q142 zn313 rfl (Nat.le_of_ble_eq_true rfl) (st := []) rfl (zcs8 (Nat.le_of_ble_eq_true rfl)) rfl (zkI (fun v261 s262 hw => ?_)) (zout hX hR hTb)
          refine z_if_eq hX dX4_next_114 (tgt := 147) rfl (fun c264 => ?_) (fun c264 => ?_)
          · have hw := hw.1 c264
            refine z_aload_n hX dX4_next_147 rfl (i := 0) rfl ?_
            refine z_gets hX dX4_next_148 (List.mem_of_getElem? (i := 0) rfl) q1362 rfl ?_
            show zW _ _ _ _ (va_rf (some (X.g.2.2.2 50)) :: _)
            obtain ⟨a267, c273, f268, r269, h274, g270, m271, l272, hw⟩ := hw
            refine z_putM hX (tf := (.object "PackingDuel$Token")) (cs := [7, 26]) (k := 6) (t := ("PackingDuel$Scanner", "token", "LPackingDuel$Token;", false)) dX4_next_151 (zfa1 ⟨_, _, _, _, zc7, (Nat.le_of_ble_eq_true rfl), rfl⟩ (zfa1 ⟨_, _, _, _, zc26, (Nat.le_of_ble_eq_true rfl), rfl⟩ (zfa0))) (zlk hX q1387) rfl (by decide +kernel) (zn_o _ _) (zf_o _ _) r269 h274 g270 m271 l272 (z_nm (fun s265 e266 => ?_))
            have hw := hw s265 e266
            refine z_goto hX dX4_next_154 (tgt := 256) rfl ?_
            refine z_sub (ls' := [none, none]) (zsN (zsN (zs0))) ?_
            exact hj89  _ hw
          · have hw := hw.2 c264
            refine z_aload_n hX dX4_next_117 rfl (i := 0) rfl ?_
            obtain ⟨a276, c281, f277, v275, r278, h282, m279, e280, hw⟩ := hw
            refine z_getM hX (cs := [7, 26]) (k := 0) (t := ("PackingDuel$Scanner", "word", "Ljava/lang/StringBuilder;", true)) dX4_next_118 (zfa1 ⟨_, _, _, _, zc7, (Nat.le_of_ble_eq_true rfl), rfl⟩ (zfa1 ⟨_, _, _, _, zc26, (Nat.le_of_ble_eq_true rfl), rfl⟩ (zfa0))) (zlk hX q1377) r278 h282 m279 e280 ?_
            refine z_aload_n hX dX4_next_121 rfl (i := 0) rfl ?_
            refine z_aload_n hX dX4_next_122 rfl (i := 0) rfl ?_
            obtain ⟨a284, c289, f285, v283, r286, h290, m287, e288, hw⟩ := hw
            refine z_getM hX (cs := [7, 26]) (k := 2) (t := ("PackingDuel$Scanner", "at", "I", false)) dX4_next_123 (zfa1 ⟨_, _, _, _, zc7, (Nat.le_of_ble_eq_true rfl), rfl⟩ (zfa1 ⟨_, _, _, _, zc26, (Nat.le_of_ble_eq_true rfl), rfl⟩ (zfa0))) (zlk hX q1379) r286 h290 m287 e288 ?_
            refine zJ_v (P := fun (j : Int32 → zS → Prop) => ∀ (v291 : Int32) (s292 : zS), j v291 s292 → zW X s292 129 [some (va_rf (some a0)), none] [.int v291, va_rf v275]) hw (fun j294 hj294 hw => ?_) (fun v291 s292 hw => ?_)
            · obtain ⟨a295, c296, f297, r298, h299, m300, hw⟩ := hw
              simp only [List.mem_cons, List.not_mem_nil, or_false] at h299
              rcases h299 with rfl | rfl
              · have hw := hw.1 rfl
                refine z_invVP hX hd r298 (ci := 7) rfl rfl m300 dX4_next_126 (hC 312 _ zm312 _ _ _ _ hw) q1131 q1133 (z_selP hX (ci := 7) rfl q1132 q1133 zh13 q1128 rfl) zh13 q1134 q142 zn312 rfl (Nat.le_of_ble_eq_true rfl) (st := [va_rf v275]) rfl (zcs8 (Nat.le_of_ble_eq_true rfl)) rfl (zkI (fun v291 s292 hw => ?_)) (zout hX hR hTb)
                exact hj294 _ _ hw
              · have hw := hw.2 rfl
                refine z_invVP hX hd r298 (ci := 26) rfl rfl m300 dX4_next_126 (hC 312 _ zm312 _ _ _ _ hw) q1131 q1133 (z_selP hX (ci := 26) rfl q1132 q1133 zh13 q1128 rfl) zh13 q1134 q142 zn312 rfl (Nat.le_of_ble_eq_true rfl) (st := [va_rf v275]) rfl (zcs8 (Nat.le_of_ble_eq_true rfl)) rfl (zkI (fun v291 s292 hw => ?_)) (zout hX hR hTb)
                exact hj294 _ _ hw
            refine z_i2c hX dX4_next_129 ?_
            obtain ⟨a304, f305, r306, m307, hw⟩ := hw
            refine z_invV hX hd r306 (ci := 8) rfl rfl m307 dX4_next_130 (hC 352 _ zm352 _ _ _ _ hw) q1349 q1350 q1351 zh16 q1352 q145 zn352 rfl (Nat.le_of_ble_eq_true rfl) (st := []) rfl (zcs8 (Nat.le_of_ble_eq_true rfl)) rfl (zkR (fun v301 s302 hw => ?_)) (zout hX hR hTb)
            refine z_pop hX dX4_next_133 (zc_rf _) ?_
            refine z_aload_n hX dX4_next_134 rfl (i := 0) rfl ?_
            refine z_dup hX dX4_next_135 (zc_rf _) ?_
            obtain ⟨a309, c314, f310, v308, r311, h315, m312, e313, hw⟩ := hw
            refine z_getM hX (cs := [7, 26]) (k := 2) (t := ("PackingDuel$Scanner", "at", "I", false)) dX4_next_136 (zfa1 ⟨_, _, _, _, zc7, (Nat.le_of_ble_eq_true rfl), rfl⟩ (zfa1 ⟨_, _, _, _, zc26, (Nat.le_of_ble_eq_true rfl), rfl⟩ (zfa0))) (zlk hX q1379) r311 h315 m312 e313 ?_
            refine z_iconst hX (v := (1 : Int32)) dX4_next_139 (by decide) ?_
            refine z_iadd hX dX4_next_140 ?_
            obtain ⟨a318, c324, f319, r320, h325, g321, m322, l323, hw⟩ := hw
            refine z_putM hX (tf := .int) (cs := [7, 26]) (k := 2) (t := ("PackingDuel$Scanner", "at", "I", false)) dX4_next_141 (zfa1 ⟨_, _, _, _, zc7, (Nat.le_of_ble_eq_true rfl), rfl⟩ (zfa1 ⟨_, _, _, _, zc26, (Nat.le_of_ble_eq_true rfl), rfl⟩ (zfa0))) (zlk hX q1379) rfl (by decide +kernel) rfl rfl r320 h325 g321 m322 l323 (z_nm (fun s316 e317 => ?_))
            have hw := hw s316 e317
            refine z_goto hX dX4_next_144 (tgt := 103) rfl ?_
            exact hrec242  _ hw
      · have hw := hw.2 c90
        refine z_aload_n hX dX4_next_86 rfl (i := 0) rfl ?_
        refine z_gets hX dX4_next_87 (List.mem_of_getElem? (i := 3) rfl) q1344 rfl ?_
        show zW _ _ _ _ (va_rf (some (X.g.2.2.2 53)) :: _)
        obtain ⟨a329, c335, f330, r331, h336, g332, m333, l334, hw⟩ := hw
        refine z_putM hX (tf := (.object "PackingDuel$Token")) (cs := [7, 26]) (k := 6) (t := ("PackingDuel$Scanner", "token", "LPackingDuel$Token;", false)) dX4_next_90 (zfa1 ⟨_, _, _, _, zc7, (Nat.le_of_ble_eq_true rfl), rfl⟩ (zfa1 ⟨_, _, _, _, zc26, (Nat.le_of_ble_eq_true rfl), rfl⟩ (zfa0))) (zlk hX q1387) rfl (by decide +kernel) (zn_o _ _) (zf_o _ _) r331 h336 g332 m333 l334 (z_nm (fun s327 e328 => ?_))
        have hw := hw s327 e328
        refine z_goto hX dX4_next_93 (tgt := 256) rfl ?_
        refine z_sub (ls' := [none, none]) (zsN (zsN (zs0))) ?_
        exact hj89  _ hw
  · refine z_icmp_ge hX dX4_next_8 (tgt := 50) rfl (fun c337 => ?_) (fun c337 => ?_)
    · have hw := hw.1 c337
      exact hj20  _ hw
    · have hw := hw.2 c337
      refine z_aload_n hX dX4_next_11 rfl (i := 0) rfl ?_
      refine z_aload_n hX dX4_next_12 rfl (i := 0) rfl ?_
      obtain ⟨a339, c344, f340, v338, r341, h345, m342, e343, hw⟩ := hw
      refine z_getM hX (cs := [7, 26]) (k := 2) (t := ("PackingDuel$Scanner", "at", "I", false)) dX4_next_13 (zfa1 ⟨_, _, _, _, zc7, (Nat.le_of_ble_eq_true rfl), rfl⟩ (zfa1 ⟨_, _, _, _, zc26, (Nat.le_of_ble_eq_true rfl), rfl⟩ (zfa0))) (zlk hX q1379) r341 h345 m342 e343 ?_
      refine zJ_v (P := fun (j : Int32 → zS → Prop) => ∀ (v346 : Int32) (s347 : zS), j v346 s347 → zW X s347 19 [some (va_rf (some a0)), none] [.int v346]) hw (fun j349 hj349 hw => ?_) (fun v346 s347 hw => ?_)
      · obtain ⟨a350, c351, f352, r353, h354, m355, hw⟩ := hw
        simp only [List.mem_cons, List.not_mem_nil, or_false] at h354
        rcases h354 with rfl | rfl
        · have hw := hw.1 rfl
          refine z_invVP hX hd r353 (ci := 7) rfl rfl m355 dX4_next_16 (hC 312 _ zm312 _ _ _ _ hw) q1131 q1133 (z_selP hX (ci := 7) rfl q1132 q1133 zh13 q1128 rfl) zh13 q1134 q142 zn312 rfl (Nat.le_of_ble_eq_true rfl) (st := []) rfl (zcs8 (Nat.le_of_ble_eq_true rfl)) rfl (zkI (fun v346 s347 hw => ?_)) (zout hX hR hTb)
          exact hj349 _ _ hw
        · have hw := hw.2 rfl
          refine z_invVP hX hd r353 (ci := 26) rfl rfl m355 dX4_next_16 (hC 312 _ zm312 _ _ _ _ hw) q1131 q1133 (z_selP hX (ci := 26) rfl q1132 q1133 zh13 q1128 rfl) zh13 q1134 q142 zn312 rfl (Nat.le_of_ble_eq_true rfl) (st := []) rfl (zcs8 (Nat.le_of_ble_eq_true rfl)) rfl (zkI (fun v346 s347 hw => ?_)) (zout hX hR hTb)
          exact hj349 _ _ hw
      refine z_bipush hX (v := (32 : Int32)) dX4_next_19 (by decide) ?_
      refine zJ_w (P := fun (j : zS → Prop) => ∀  (s356 : zS), j  s356 → zW X s356 37 [some (va_rf (some a0)), none] []) hw (fun  s356 hw => ?_) (fun j357 hj357 hw => ?_)
      · refine z_aload_n hX dX4_next_37 rfl (i := 0) rfl ?_
        refine z_dup hX dX4_next_38 (zc_rf _) ?_
        obtain ⟨a359, c364, f360, v358, r361, h365, m362, e363, hw⟩ := hw
        refine z_getM hX (cs := [7, 26]) (k := 2) (t := ("PackingDuel$Scanner", "at", "I", false)) dX4_next_39 (zfa1 ⟨_, _, _, _, zc7, (Nat.le_of_ble_eq_true rfl), rfl⟩ (zfa1 ⟨_, _, _, _, zc26, (Nat.le_of_ble_eq_true rfl), rfl⟩ (zfa0))) (zlk hX q1379) r361 h365 m362 e363 ?_
        refine z_iconst hX (v := (1 : Int32)) dX4_next_42 (by decide) ?_
        refine z_iadd hX dX4_next_43 ?_
        obtain ⟨a368, c374, f369, r370, h375, g371, m372, l373, hw⟩ := hw
        refine z_putM hX (tf := .int) (cs := [7, 26]) (k := 2) (t := ("PackingDuel$Scanner", "at", "I", false)) dX4_next_44 (zfa1 ⟨_, _, _, _, zc7, (Nat.le_of_ble_eq_true rfl), rfl⟩ (zfa1 ⟨_, _, _, _, zc26, (Nat.le_of_ble_eq_true rfl), rfl⟩ (zfa0))) (zlk hX q1379) rfl (by decide +kernel) rfl rfl r370 h375 g371 m372 l373 (z_nm (fun s366 e367 => ?_))
        have hw := hw s366 e367
        refine z_goto hX dX4_next_47 (tgt := 0) rfl ?_
        exact hrec2  _ hw
      · refine z_icmp_eq hX dX4_next_21 (tgt := 37) rfl (fun c376 => ?_) (fun c376 => ?_)
        · have hw := hw.1 c376
          exact hj357  _ hw
        · have hw := hw.2 c376
          refine z_aload_n hX dX4_next_24 rfl (i := 0) rfl ?_
          refine z_aload_n hX dX4_next_25 rfl (i := 0) rfl ?_
          obtain ⟨a378, c383, f379, v377, r380, h384, m381, e382, hw⟩ := hw
          refine z_getM hX (cs := [7, 26]) (k := 2) (t := ("PackingDuel$Scanner", "at", "I", false)) dX4_next_26 (zfa1 ⟨_, _, _, _, zc7, (Nat.le_of_ble_eq_true rfl), rfl⟩ (zfa1 ⟨_, _, _, _, zc26, (Nat.le_of_ble_eq_true rfl), rfl⟩ (zfa0))) (zlk hX q1379) r380 h384 m381 e382 ?_
          refine zJ_v (P := fun (j : Int32 → zS → Prop) => ∀ (v385 : Int32) (s386 : zS), j v385 s386 → zW X s386 32 [some (va_rf (some a0)), none] [.int v385]) hw (fun j388 hj388 hw => ?_) (fun v385 s386 hw => ?_)
          · obtain ⟨a389, c390, f391, r392, h393, m394, hw⟩ := hw
            simp only [List.mem_cons, List.not_mem_nil, or_false] at h393
            rcases h393 with rfl | rfl
            · have hw := hw.1 rfl
              refine z_invVP hX hd r392 (ci := 7) rfl rfl m394 dX4_next_29 (hC 312 _ zm312 _ _ _ _ hw) q1131 q1133 (z_selP hX (ci := 7) rfl q1132 q1133 zh13 q1128 rfl) zh13 q1134 q142 zn312 rfl (Nat.le_of_ble_eq_true rfl) (st := []) rfl (zcs8 (Nat.le_of_ble_eq_true rfl)) rfl (zkI (fun v385 s386 hw => ?_)) (zout hX hR hTb)
              exact hj388 _ _ hw
            · have hw := hw.2 rfl
              refine z_invVP hX hd r392 (ci := 26) rfl rfl m394 dX4_next_29 (hC 312 _ zm312 _ _ _ _ hw) q1131 q1133 (z_selP hX (ci := 26) rfl q1132 q1133 zh13 q1128 rfl) zh13 q1134 q142 zn312 rfl (Nat.le_of_ble_eq_true rfl) (st := []) rfl (zcs8 (Nat.le_of_ble_eq_true rfl)) rfl (zkI (fun v385 s386 hw => ?_)) (zout hX hR hTb)
              exact hj388 _ _ hw
          refine z_bipush hX (v := (10 : Int32)) dX4_next_32 (by decide) ?_
          refine z_icmp_ne hX dX4_next_34 (tgt := 50) rfl (fun c395 => ?_) (fun c395 => ?_)
          · have hw := hw.1 c395
            exact hj20  _ hw
          · have hw := hw.2 c395
            exact hj357  _ hw
abbrev cX4_byteAt : ByteArray := prog_19_method_2_code
def yX4_byteAt : MethodName := ⟨RX4, "byteAt", "(I)I"⟩
def dkwX4_byteAt_1 : List UInt8 := [3, 172]
abbrev dktX4_byteAt_1 : List UInt8 := dkwX4_byteAt_1 ++ []
def dkwX4_byteAt_0 : List UInt8 := [27, 42, 180, 0, 22, 162, 0, 19, 42, 180, 0, 3, 180, 0, 29, 27, 51, 17, 0, 255, 126, 167, 0, 4]
abbrev dktX4_byteAt_0 : List UInt8 := dkwX4_byteAt_0 ++ dktX4_byteAt_1
theorem dksX4_byteAt_0 : cX4_byteAt.data.toList.drop 0 = dktX4_byteAt_0 := by decide +kernel
theorem dksX4_byteAt_1 : cX4_byteAt.data.toList.drop 24 = dktX4_byteAt_1 := dk_seg dksX4_byteAt_0 24 rfl rfl
theorem dX4_byteAt_0 : decode cX4_byteAt 0 = .ok (.iload_n 1, 1) := dk_27 (dk_at dksX4_byteAt_0 0 rfl rfl)
theorem dX4_byteAt_1 : decode cX4_byteAt 1 = .ok (.aload_n 0, 1) := dk_42 (dk_at dksX4_byteAt_0 1 rfl rfl)
theorem dX4_byteAt_2 : decode cX4_byteAt 2 = .ok (.getfield 22, 3) := dk_180 0 22 (dk_at dksX4_byteAt_0 2 rfl rfl)
theorem dX4_byteAt_5 : decode cX4_byteAt 5 = .ok (.if_icmp .ge 19, 3) := dk_162 0 19 (dk_at dksX4_byteAt_0 5 rfl rfl)
theorem dX4_byteAt_8 : decode cX4_byteAt 8 = .ok (.aload_n 0, 1) := dk_42 (dk_at dksX4_byteAt_0 8 rfl rfl)
theorem dX4_byteAt_9 : decode cX4_byteAt 9 = .ok (.getfield 3, 3) := dk_180 0 3 (dk_at dksX4_byteAt_0 9 rfl rfl)
theorem dX4_byteAt_12 : decode cX4_byteAt 12 = .ok (.getfield 29, 3) := dk_180 0 29 (dk_at dksX4_byteAt_0 12 rfl rfl)
theorem dX4_byteAt_15 : decode cX4_byteAt 15 = .ok (.iload_n 1, 1) := dk_27 (dk_at dksX4_byteAt_0 15 rfl rfl)
theorem dX4_byteAt_16 : decode cX4_byteAt 16 = .ok (.baload, 1) := dk_51 (dk_at dksX4_byteAt_0 16 rfl rfl)
theorem dX4_byteAt_17 : decode cX4_byteAt 17 = .ok (.sipush 255, 3) := dk_17 0 255 (dk_at dksX4_byteAt_0 17 rfl rfl)
theorem dX4_byteAt_20 : decode cX4_byteAt 20 = .ok (.iand, 1) := dk_126 (dk_at dksX4_byteAt_0 20 rfl rfl)
theorem dX4_byteAt_21 : decode cX4_byteAt 21 = .ok (.goto 4, 3) := dk_167 0 4 (dk_at dksX4_byteAt_0 21 rfl rfl)
theorem dX4_byteAt_24 : decode cX4_byteAt 24 = .ok (.iconst 0, 1) := dk_3 (dk_at dksX4_byteAt_1 0 rfl rfl)
theorem dX4_byteAt_25 : decode cX4_byteAt 25 = .ok (.ireturn, 1) := dk_172 (dk_at dksX4_byteAt_1 1 rfl rfl)
/-- PackingDuel$Scanner.byteAt(I)I -/
def zb312 (G : zPg) (C : zO) (args : List Value) (Q : zQ) (Y : zY) (σ : zS) : Prop := ∃ (a0 : Nat) (x1 : Int32), args = [.ref a0, .int x1] ∧ (zgIM σ (some a0) [7, 26] 1 (fun v1 => zJ (fun (p9 : Int32) (s10 : zS) => Q (some (.int p9)) s10) (fun (j11 : Int32 → zS → Prop) => ((v1 ≤ x1) → j11 (0 : Int32) σ) ∧ ((¬ v1 ≤ x1) → zgRM σ (some a0) [7, 26] 7 (fun v13 => zgR σ v13 0 3 (fun v21 => zaI σ 2 v21 x1 (fun v33 => j11 (v33 &&& (255 : Int32)) σ)))))))
set_option maxHeartbeats 4000000 in
theorem wk312 {l : Launch} {g : zG} {d : Nat} {C : zO} (hG : zGk g) (hC : zSound l g d C) {args : List Value} {Q : zQ} {Y : zY} {σ : zS} (hw : zb312 (zpg g) C args Q Y σ) : zMet l g (d + 1) (⟨"PackingDuel$Scanner", "byteAt", "(I)I"⟩, Cond.code ⟨"PackingDuel$Scanner", "byteAt", "(I)I"⟩ prog_19_method_2_code 2 (Option.some FieldType.int)) args σ Q Y := by
  obtain ⟨a0, x1, rfl, hw⟩ := hw
  refine zof hG (by decide +kernel) [false, false] ⟨rfl, rfl, trivial⟩ (Nat.le_of_ble_eq_true rfl) (ls := [some (va_rf (some a0)), some (.int x1)]) rfl ?_
  intro X hX hR hTb hd1 hd2 hl hg hnm
  subst hl
  subst hg
  have hd : zDep X d := ⟨hd1, hd2⟩
  refine z_iload_n hX dX4_byteAt_0 rfl (i := 1) rfl ?_
  refine z_aload_n hX dX4_byteAt_1 rfl (i := 0) rfl ?_
  obtain ⟨a2, c7, f3, v1, r4, h8, m5, e6, hw⟩ := hw
  refine z_getM hX (cs := [7, 26]) (k := 1) (t := ("PackingDuel$Scanner", "end", "I", true)) dX4_byteAt_2 (zfa1 ⟨_, _, _, _, zc7, (Nat.le_of_ble_eq_true rfl), rfl⟩ (zfa1 ⟨_, _, _, _, zc26, (Nat.le_of_ble_eq_true rfl), rfl⟩ (zfa0))) (zlk hX q1378) r4 h8 m5 e6 ?_
  refine zJ_w (P := fun (j : Int32 → zS → Prop) => ∀ (p9 : Int32) (s10 : zS), j p9 s10 → zW X s10 25 [none, none] [.int p9]) hw (fun p9 s10 hw => ?_) (fun j11 hj11 hw => ?_)
  · exact z_ireturn hX hR dX4_byteAt_25 rfl hw
  · refine z_icmp_ge hX dX4_byteAt_5 (tgt := 24) rfl (fun c12 => ?_) (fun c12 => ?_)
    · have hw := hw.1 c12
      refine z_iconst hX (v := (0 : Int32)) dX4_byteAt_24 (by decide) ?_
      refine z_sub (ls' := [none, none]) (zsN (zsN (zs0))) ?_
      exact hj11 _ _ hw
    · have hw := hw.2 c12
      refine z_aload_n hX dX4_byteAt_8 rfl (i := 0) rfl ?_
      obtain ⟨a14, c19, f15, v13, r16, h20, m17, e18, hw⟩ := hw
      refine z_getM hX (cs := [7, 26]) (k := 7) (t := ("PackingDuel$Scanner", "this$0", "LPackingDuel;", true)) dX4_byteAt_9 (zfa1 ⟨_, _, _, _, zc7, (Nat.le_of_ble_eq_true rfl), rfl⟩ (zfa1 ⟨_, _, _, _, zc26, (Nat.le_of_ble_eq_true rfl), rfl⟩ (zfa0))) (zlk hX q1388) r16 h20 m17 e18 ?_
      obtain ⟨a22, f23, v21, r24, m25, e26, hw⟩ := hw
      refine z_get hX zc0 (k := 3) dX4_byteAt_12 (Nat.le_of_ble_eq_true rfl) (zlkN hX "PackingDuel" q310) r24 m25 e26 ?_
      refine z_iload_n hX dX4_byteAt_15 rfl (i := 1) rfl ?_
      obtain ⟨a27, n28, f29, r30, m31, i32, hw⟩ := hw
      refine z_bald hX dX4_byteAt_16 r30 m31 i32 ?_
      revert hw
      generalize f29 (Int32.toNatClampNeg x1) = v33
      intro hw
      refine z_sipush hX (v := (255 : Int32)) dX4_byteAt_17 (by decide) ?_
      refine z_iand hX dX4_byteAt_20 ?_
      refine z_goto hX dX4_byteAt_21 (tgt := 25) rfl ?_
      refine z_sub (ls' := [none, none]) (zsN (zsN (zs0))) ?_
      exact hj11 _ _ hw
abbrev cX4_isLetter : ByteArray := prog_19_method_3_code
def yX4_isLetter : MethodName := ⟨RX4, "isLetter", "(I)Z"⟩
def dkwX4_isLetter_0 : List UInt8 := [26, 16, 97, 161, 0, 13, 26, 16, 122, 163, 0, 7, 4, 167, 0, 4, 3, 172]
abbrev dktX4_isLetter_0 : List UInt8 := dkwX4_isLetter_0 ++ []
theorem dksX4_isLetter_0 : cX4_isLetter.data.toList.drop 0 = dktX4_isLetter_0 := by decide +kernel
theorem dX4_isLetter_0 : decode cX4_isLetter 0 = .ok (.iload_n 0, 1) := dk_26 (dk_at dksX4_isLetter_0 0 rfl rfl)
theorem dX4_isLetter_1 : decode cX4_isLetter 1 = .ok (.bipush 97, 2) := dk_16 97 (dk_at dksX4_isLetter_0 1 rfl rfl)
theorem dX4_isLetter_3 : decode cX4_isLetter 3 = .ok (.if_icmp .lt 13, 3) := dk_161 0 13 (dk_at dksX4_isLetter_0 3 rfl rfl)
theorem dX4_isLetter_6 : decode cX4_isLetter 6 = .ok (.iload_n 0, 1) := dk_26 (dk_at dksX4_isLetter_0 6 rfl rfl)
theorem dX4_isLetter_7 : decode cX4_isLetter 7 = .ok (.bipush 122, 2) := dk_16 122 (dk_at dksX4_isLetter_0 7 rfl rfl)
theorem dX4_isLetter_9 : decode cX4_isLetter 9 = .ok (.if_icmp .gt 7, 3) := dk_163 0 7 (dk_at dksX4_isLetter_0 9 rfl rfl)
theorem dX4_isLetter_12 : decode cX4_isLetter 12 = .ok (.iconst 1, 1) := dk_4 (dk_at dksX4_isLetter_0 12 rfl rfl)
theorem dX4_isLetter_13 : decode cX4_isLetter 13 = .ok (.goto 4, 3) := dk_167 0 4 (dk_at dksX4_isLetter_0 13 rfl rfl)
theorem dX4_isLetter_16 : decode cX4_isLetter 16 = .ok (.iconst 0, 1) := dk_3 (dk_at dksX4_isLetter_0 16 rfl rfl)
theorem dX4_isLetter_17 : decode cX4_isLetter 17 = .ok (.ireturn, 1) := dk_172 (dk_at dksX4_isLetter_0 17 rfl rfl)
/-- PackingDuel$Scanner.isLetter(I)Z -/
def zb313 (G : zPg) (C : zO) (args : List Value) (Q : zQ) (Y : zY) (σ : zS) : Prop := ∃ (x1 : Int32), args = [.int x1] ∧ (zJ (fun (p1 : Int32) (s2 : zS) => zbool p1 ∧ Q (some (.int p1)) s2) (fun (j3 : Int32 → zS → Prop) => zJ (fun  (s4 : zS) => j3 (0 : Int32) s4) (fun (j5 : zS → Prop) => ((x1 < (97 : Int32)) → j5 σ) ∧ ((¬ x1 < (97 : Int32)) → (((122 : Int32) < x1) → j5 σ) ∧ ((¬ (122 : Int32) < x1) → j3 (1 : Int32) σ)))))
set_option maxHeartbeats 4000000 in
theorem wk313 {l : Launch} {g : zG} {d : Nat} {C : zO} (hG : zGk g) (hC : zSound l g d C) {args : List Value} {Q : zQ} {Y : zY} {σ : zS} (hw : zb313 (zpg g) C args Q Y σ) : zMet l g (d + 1) (⟨"PackingDuel$Scanner", "isLetter", "(I)Z"⟩, Cond.code ⟨"PackingDuel$Scanner", "isLetter", "(I)Z"⟩ prog_19_method_3_code 1 (Option.some FieldType.boolean)) args σ Q Y := by
  obtain ⟨x1, rfl, hw⟩ := hw
  refine zof hG (by decide +kernel) [false] ⟨rfl, trivial⟩ (Nat.le_of_ble_eq_true rfl) (ls := [some (.int x1)]) rfl ?_
  intro X hX hR hTb hd1 hd2 hl hg hnm
  subst hl
  subst hg
  have hd : zDep X d := ⟨hd1, hd2⟩
  refine z_iload_n hX dX4_isLetter_0 rfl (i := 0) rfl ?_
  refine z_bipush hX (v := (97 : Int32)) dX4_isLetter_1 (by decide) ?_
  refine zJ_w (P := fun (j : Int32 → zS → Prop) => ∀ (p1 : Int32) (s2 : zS), j p1 s2 → zW X s2 17 [none] [.int p1]) hw (fun p1 s2 hw => ?_) (fun j3 hj3 hw => ?_)
  · exact z_ireturn hX hR dX4_isLetter_17 (zn_z hw.1) hw.2
  · refine zJ_w (P := fun (j : zS → Prop) => ∀  (s4 : zS), j  s4 → zW X s4 16 [none] []) hw (fun  s4 hw => ?_) (fun j5 hj5 hw => ?_)
    · refine z_iconst hX (v := (0 : Int32)) dX4_isLetter_16 (by decide) ?_
      exact hj3 _ _ hw
    · refine z_icmp_lt hX dX4_isLetter_3 (tgt := 16) rfl (fun c6 => ?_) (fun c6 => ?_)
      · have hw := hw.1 c6
        refine z_sub (ls' := [none]) (zsN (zs0)) ?_
        exact hj5  _ hw
      · have hw := hw.2 c6
        refine z_iload_n hX dX4_isLetter_6 rfl (i := 0) rfl ?_
        refine z_bipush hX (v := (122 : Int32)) dX4_isLetter_7 (by decide) ?_
        refine z_icmp_gt hX dX4_isLetter_9 (tgt := 16) rfl (fun c7 => ?_) (fun c7 => ?_)
        · have hw := hw.1 c7
          refine z_sub (ls' := [none]) (zsN (zs0)) ?_
          exact hj5  _ hw
        · have hw := hw.2 c7
          refine z_iconst hX (v := (1 : Int32)) dX4_isLetter_12 (by decide) ?_
          refine z_goto hX dX4_isLetter_13 (tgt := 17) rfl ?_
          refine z_sub (ls' := [none]) (zsN (zs0)) ?_
          exact hj3 _ _ hw
abbrev cX4_isDigit : ByteArray := prog_19_method_4_code
def yX4_isDigit : MethodName := ⟨RX4, "isDigit", "(I)Z"⟩
def dkwX4_isDigit_0 : List UInt8 := [26, 16, 48, 161, 0, 13, 26, 16, 57, 163, 0, 7, 4, 167, 0, 4, 3, 172]
abbrev dktX4_isDigit_0 : List UInt8 := dkwX4_isDigit_0 ++ []
theorem dksX4_isDigit_0 : cX4_isDigit.data.toList.drop 0 = dktX4_isDigit_0 := by decide +kernel
theorem dX4_isDigit_0 : decode cX4_isDigit 0 = .ok (.iload_n 0, 1) := dk_26 (dk_at dksX4_isDigit_0 0 rfl rfl)
theorem dX4_isDigit_1 : decode cX4_isDigit 1 = .ok (.bipush 48, 2) := dk_16 48 (dk_at dksX4_isDigit_0 1 rfl rfl)
theorem dX4_isDigit_3 : decode cX4_isDigit 3 = .ok (.if_icmp .lt 13, 3) := dk_161 0 13 (dk_at dksX4_isDigit_0 3 rfl rfl)
theorem dX4_isDigit_6 : decode cX4_isDigit 6 = .ok (.iload_n 0, 1) := dk_26 (dk_at dksX4_isDigit_0 6 rfl rfl)
theorem dX4_isDigit_7 : decode cX4_isDigit 7 = .ok (.bipush 57, 2) := dk_16 57 (dk_at dksX4_isDigit_0 7 rfl rfl)
theorem dX4_isDigit_9 : decode cX4_isDigit 9 = .ok (.if_icmp .gt 7, 3) := dk_163 0 7 (dk_at dksX4_isDigit_0 9 rfl rfl)
theorem dX4_isDigit_12 : decode cX4_isDigit 12 = .ok (.iconst 1, 1) := dk_4 (dk_at dksX4_isDigit_0 12 rfl rfl)
theorem dX4_isDigit_13 : decode cX4_isDigit 13 = .ok (.goto 4, 3) := dk_167 0 4 (dk_at dksX4_isDigit_0 13 rfl rfl)
theorem dX4_isDigit_16 : decode cX4_isDigit 16 = .ok (.iconst 0, 1) := dk_3 (dk_at dksX4_isDigit_0 16 rfl rfl)
theorem dX4_isDigit_17 : decode cX4_isDigit 17 = .ok (.ireturn, 1) := dk_172 (dk_at dksX4_isDigit_0 17 rfl rfl)
/-- PackingDuel$Scanner.isDigit(I)Z -/
def zb314 (G : zPg) (C : zO) (args : List Value) (Q : zQ) (Y : zY) (σ : zS) : Prop := ∃ (x1 : Int32), args = [.int x1] ∧ (zJ (fun (p1 : Int32) (s2 : zS) => zbool p1 ∧ Q (some (.int p1)) s2) (fun (j3 : Int32 → zS → Prop) => zJ (fun  (s4 : zS) => j3 (0 : Int32) s4) (fun (j5 : zS → Prop) => ((x1 < (48 : Int32)) → j5 σ) ∧ ((¬ x1 < (48 : Int32)) → (((57 : Int32) < x1) → j5 σ) ∧ ((¬ (57 : Int32) < x1) → j3 (1 : Int32) σ)))))
set_option maxHeartbeats 4000000 in
theorem wk314 {l : Launch} {g : zG} {d : Nat} {C : zO} (hG : zGk g) (hC : zSound l g d C) {args : List Value} {Q : zQ} {Y : zY} {σ : zS} (hw : zb314 (zpg g) C args Q Y σ) : zMet l g (d + 1) (⟨"PackingDuel$Scanner", "isDigit", "(I)Z"⟩, Cond.code ⟨"PackingDuel$Scanner", "isDigit", "(I)Z"⟩ prog_19_method_4_code 1 (Option.some FieldType.boolean)) args σ Q Y := by
  obtain ⟨x1, rfl, hw⟩ := hw
  refine zof hG (by decide +kernel) [false] ⟨rfl, trivial⟩ (Nat.le_of_ble_eq_true rfl) (ls := [some (.int x1)]) rfl ?_
  intro X hX hR hTb hd1 hd2 hl hg hnm
  subst hl
  subst hg
  have hd : zDep X d := ⟨hd1, hd2⟩
  refine z_iload_n hX dX4_isDigit_0 rfl (i := 0) rfl ?_
  refine z_bipush hX (v := (48 : Int32)) dX4_isDigit_1 (by decide) ?_
  refine zJ_w (P := fun (j : Int32 → zS → Prop) => ∀ (p1 : Int32) (s2 : zS), j p1 s2 → zW X s2 17 [none] [.int p1]) hw (fun p1 s2 hw => ?_) (fun j3 hj3 hw => ?_)
  · exact z_ireturn hX hR dX4_isDigit_17 (zn_z hw.1) hw.2
  · refine zJ_w (P := fun (j : zS → Prop) => ∀  (s4 : zS), j  s4 → zW X s4 16 [none] []) hw (fun  s4 hw => ?_) (fun j5 hj5 hw => ?_)
    · refine z_iconst hX (v := (0 : Int32)) dX4_isDigit_16 (by decide) ?_
      exact hj3 _ _ hw
    · refine z_icmp_lt hX dX4_isDigit_3 (tgt := 16) rfl (fun c6 => ?_) (fun c6 => ?_)
      · have hw := hw.1 c6
        refine z_sub (ls' := [none]) (zsN (zs0)) ?_
        exact hj5  _ hw
      · have hw := hw.2 c6
        refine z_iload_n hX dX4_isDigit_6 rfl (i := 0) rfl ?_
        refine z_bipush hX (v := (57 : Int32)) dX4_isDigit_7 (by decide) ?_
        refine z_icmp_gt hX dX4_isDigit_9 (tgt := 16) rfl (fun c7 => ?_) (fun c7 => ?_)
        · have hw := hw.1 c7
          refine z_sub (ls' := [none]) (zsN (zs0)) ?_
          exact hj5  _ hw
        · have hw := hw.2 c7
          refine z_iconst hX (v := (1 : Int32)) dX4_isDigit_12 (by decide) ?_
          refine z_goto hX dX4_isDigit_13 (tgt := 17) rfl ?_
          refine z_sub (ls' := [none]) (zsN (zs0)) ?_
          exact hj3 _ _ hw
abbrev cX4_accept : ByteArray := prog_19_method_10_code
def yX4_accept : MethodName := ⟨RX4, "accept", "(Ljava/lang/String;)Z"⟩
def dkwX4_accept_0 : List UInt8 := [42, 182, 0, 100, 43, 182, 0, 103, 61, 28, 153, 0, 7, 42, 182, 0, 26, 28, 172]
abbrev dktX4_accept_0 : List UInt8 := dkwX4_accept_0 ++ []
theorem dksX4_accept_0 : cX4_accept.data.toList.drop 0 = dktX4_accept_0 := by decide +kernel
theorem dX4_accept_0 : decode cX4_accept 0 = .ok (.aload_n 0, 1) := dk_42 (dk_at dksX4_accept_0 0 rfl rfl)
theorem dX4_accept_1 : decode cX4_accept 1 = .ok (.invokevirtual 100, 3) := dk_182 0 100 (dk_at dksX4_accept_0 1 rfl rfl)
theorem dX4_accept_4 : decode cX4_accept 4 = .ok (.aload_n 1, 1) := dk_43 (dk_at dksX4_accept_0 4 rfl rfl)
theorem dX4_accept_5 : decode cX4_accept 5 = .ok (.invokevirtual 103, 3) := dk_182 0 103 (dk_at dksX4_accept_0 5 rfl rfl)
theorem dX4_accept_8 : decode cX4_accept 8 = .ok (.istore_n 2, 1) := dk_61 (dk_at dksX4_accept_0 8 rfl rfl)
theorem dX4_accept_9 : decode cX4_accept 9 = .ok (.iload_n 2, 1) := dk_28 (dk_at dksX4_accept_0 9 rfl rfl)
theorem dX4_accept_10 : decode cX4_accept 10 = .ok (.ifCond .eq 7, 3) := dk_153 0 7 (dk_at dksX4_accept_0 10 rfl rfl)
theorem dX4_accept_13 : decode cX4_accept 13 = .ok (.aload_n 0, 1) := dk_42 (dk_at dksX4_accept_0 13 rfl rfl)
theorem dX4_accept_14 : decode cX4_accept 14 = .ok (.invokevirtual 26, 3) := dk_182 0 26 (dk_at dksX4_accept_0 14 rfl rfl)
theorem dX4_accept_17 : decode cX4_accept 17 = .ok (.iload_n 2, 1) := dk_28 (dk_at dksX4_accept_0 17 rfl rfl)
theorem dX4_accept_18 : decode cX4_accept 18 = .ok (.ireturn, 1) := dk_172 (dk_at dksX4_accept_0 18 rfl rfl)
/-- PackingDuel$Scanner.accept(Ljava/lang/String;)Z -/
def zb315 (G : zPg) (C : zO) (args : List Value) (Q : zQ) (Y : zY) (σ : zS) : Prop := ∃ (a0 : Nat) (x1 : Option Nat), args = [.ref a0, va_rf x1] ∧ (zJ (fun (v1 : Option Nat) (s2 : zS) => zrc s2 v1 9 (fun a14 => zcl C 365 [.ref a14, va_rf x1] Y s2 (zqI (fun v11 s12 => zJ (fun  (s18 : zS) => zbool v11 ∧ Q (some (.int v11)) s18) (fun (j19 : zS → Prop) => ((v11 = 0) → j19 s12) ∧ ((¬ v11 = 0) → zJ (fun (s22 : zS) => j19 s22) (fun (j24 : zS → Prop) => zrcM s12 (some a0) [7, 26] (fun a25 c26 => (c26 = 7 → zcl C 311 [.ref a25] Y s12 (zqV j24)) ∧ (c26 = 26 → zcl C 311 [.ref a25] Y s12 (zqV j24)))))))))) (fun (j4 : Option Nat → zS → Prop) => zrcM σ (some a0) [7, 26] (fun a5 c6 => (c6 = 7 → zcl C 316 [.ref a5] Y σ (zqR j4)) ∧ (c6 = 26 → zcl C 316 [.ref a5] Y σ (zqR j4)))))
set_option maxHeartbeats 4000000 in
theorem wk315 {l : Launch} {g : zG} {d : Nat} {C : zO} (hG : zGk g) (hC : zSound l g d C) {args : List Value} {Q : zQ} {Y : zY} {σ : zS} (hw : zb315 (zpg g) C args Q Y σ) : zMet l g (d + 1) (⟨"PackingDuel$Scanner", "accept", "(Ljava/lang/String;)Z"⟩, Cond.code ⟨"PackingDuel$Scanner", "accept", "(Ljava/lang/String;)Z"⟩ prog_19_method_10_code 3 (Option.some FieldType.boolean)) args σ Q Y := by
  obtain ⟨a0, x1, rfl, hw⟩ := hw
  refine zof hG (by decide +kernel) [false, false] ⟨rfl, (zc_rf _), trivial⟩ (Nat.le_of_ble_eq_true rfl) (ls := [some (va_rf (some a0)), some (va_rf x1), none]) rfl ?_
  intro X hX hR hTb hd1 hd2 hl hg hnm
  subst hl
  subst hg
  have hd : zDep X d := ⟨hd1, hd2⟩
  refine z_aload_n hX dX4_accept_0 rfl (i := 0) rfl ?_
  refine zJ_v (P := fun (j : Option Nat → zS → Prop) => ∀ (v1 : Option Nat) (s2 : zS), j v1 s2 → zW X s2 4 [some (va_rf (some a0)), some (va_rf x1), none] [va_rf v1]) hw (fun j4 hj4 hw => ?_) (fun v1 s2 hw => ?_)
  · obtain ⟨a5, c6, f7, r8, h9, m10, hw⟩ := hw
    simp only [List.mem_cons, List.not_mem_nil, or_false] at h9
    rcases h9 with rfl | rfl
    · have hw := hw.1 rfl
      refine z_invV hX hd r8 (ci := 7) rfl rfl m10 dX4_accept_1 (hC 316 _ zm316 _ _ _ _ hw) q1421 q1422 q1424 zh13 q1426 q142 zn316 rfl (Nat.le_of_ble_eq_true rfl) (st := []) rfl (zcs8 (Nat.le_of_ble_eq_true rfl)) rfl (zkR (fun v1 s2 hw => ?_)) (zout hX hR hTb)
      exact hj4 _ _ hw
    · have hw := hw.2 rfl
      refine z_invV hX hd r8 (ci := 26) rfl rfl m10 dX4_accept_1 (hC 316 _ zm316 _ _ _ _ hw) q1421 q1422 q1425 zh13 q1426 q142 zn316 rfl (Nat.le_of_ble_eq_true rfl) (st := []) rfl (zcs8 (Nat.le_of_ble_eq_true rfl)) rfl (zkR (fun v1 s2 hw => ?_)) (zout hX hR hTb)
      exact hj4 _ _ hw
  refine z_aload_n hX dX4_accept_4 rfl (i := 1) rfl ?_
  obtain ⟨a14, f15, r16, m17, hw⟩ := hw
  refine z_invV hX hd r16 (ci := 9) rfl rfl m17 dX4_accept_5 (hC 365 _ zm365 _ _ _ _ hw) q1429 q1430 q1431 zh17 q1432 q146 zn365 rfl (Nat.le_of_ble_eq_true rfl) (st := []) rfl (zcs8 (Nat.le_of_ble_eq_true rfl)) rfl (zkI (fun v11 s12 hw => ?_)) (zout hX hR hTb)
  refine z_istore_n hX dX4_accept_8 rfl (i := 2) (Nat.le_of_ble_eq_true rfl) (zc_rf _) (ls2 := [some (va_rf (some a0)), some (va_rf x1), some (.int v11)]) rfl ?_
  refine z_iload_n hX dX4_accept_9 rfl (i := 2) rfl ?_
  refine zJ_w (P := fun (j : zS → Prop) => ∀  (s18 : zS), j  s18 → zW X s18 17 [none, none, some (.int v11)] []) hw (fun  s18 hw => ?_) (fun j19 hj19 hw => ?_)
  · refine z_iload_n hX dX4_accept_17 rfl (i := 2) rfl ?_
    exact z_ireturn hX hR dX4_accept_18 (zn_z hw.1) hw.2
  · refine z_if_eq hX dX4_accept_10 (tgt := 17) rfl (fun c20 => ?_) (fun c20 => ?_)
    · have hw := hw.1 c20
      refine z_sub (ls' := [none, none, some (.int v11)]) (zsN (zsN (zsS (zs0)))) ?_
      exact hj19  _ hw
    · have hw := hw.2 c20
      refine z_aload_n hX dX4_accept_13 rfl (i := 0) rfl ?_
      refine zJ_v (P := fun (j : zS → Prop) => ∀ (s22 : zS), j s22 → zW X s22 17 [some (va_rf (some a0)), some (va_rf x1), some (.int v11)] []) hw (fun j24 hj24 hw => ?_) (fun s22 hw => ?_)
      · obtain ⟨a25, c26, f27, r28, h29, m30, hw⟩ := hw
        simp only [List.mem_cons, List.not_mem_nil, or_false] at h29
        rcases h29 with rfl | rfl
        · have hw := hw.1 rfl
          refine z_invV hX hd r28 (ci := 7) rfl rfl m30 dX4_accept_14 (hC 311 _ zm311 _ _ _ _ hw) q1125 q1126 q1128 zh13 q1130 q142 zn311 rfl (Nat.le_of_ble_eq_true rfl) (st := []) rfl (zcs8 (Nat.le_of_ble_eq_true rfl)) rfl (zkV (fun s22 hw => ?_)) (zout hX hR hTb)
          exact hj24 _ hw
        · have hw := hw.2 rfl
          refine z_invV hX hd r28 (ci := 26) rfl rfl m30 dX4_accept_14 (hC 311 _ zm311 _ _ _ _ hw) q1125 q1126 q1129 zh13 q1130 q142 zn311 rfl (Nat.le_of_ble_eq_true rfl) (st := []) rfl (zcs8 (Nat.le_of_ble_eq_true rfl)) rfl (zkV (fun s22 hw => ?_)) (zout hX hR hTb)
          exact hj24 _ hw
      refine z_sub (ls' := [none, none, some (.int v11)]) (zsN (zsN (zsS (zs0)))) ?_
      exact hj19  _ hw
abbrev cX4_keyword : ByteArray := prog_19_method_9_code
def yX4_keyword : MethodName := ⟨RX4, "keyword", "()Ljava/lang/String;"⟩
def dkwX4_keyword_0 : List UInt8 := [42, 180, 0, 53, 178, 0, 64, 166, 0, 13, 42, 180, 0, 18, 182, 0, 94, 167, 0, 5, 18, 98, 176]
abbrev dktX4_keyword_0 : List UInt8 := dkwX4_keyword_0 ++ []
theorem dksX4_keyword_0 : cX4_keyword.data.toList.drop 0 = dktX4_keyword_0 := by decide +kernel
theorem dX4_keyword_0 : decode cX4_keyword 0 = .ok (.aload_n 0, 1) := dk_42 (dk_at dksX4_keyword_0 0 rfl rfl)
theorem dX4_keyword_1 : decode cX4_keyword 1 = .ok (.getfield 53, 3) := dk_180 0 53 (dk_at dksX4_keyword_0 1 rfl rfl)
theorem dX4_keyword_4 : decode cX4_keyword 4 = .ok (.getstatic 64, 3) := dk_178 0 64 (dk_at dksX4_keyword_0 4 rfl rfl)
theorem dX4_keyword_7 : decode cX4_keyword 7 = .ok (.if_acmp .ne 13, 3) := dk_166 0 13 (dk_at dksX4_keyword_0 7 rfl rfl)
theorem dX4_keyword_10 : decode cX4_keyword 10 = .ok (.aload_n 0, 1) := dk_42 (dk_at dksX4_keyword_0 10 rfl rfl)
theorem dX4_keyword_11 : decode cX4_keyword 11 = .ok (.getfield 18, 3) := dk_180 0 18 (dk_at dksX4_keyword_0 11 rfl rfl)
theorem dX4_keyword_14 : decode cX4_keyword 14 = .ok (.invokevirtual 94, 3) := dk_182 0 94 (dk_at dksX4_keyword_0 14 rfl rfl)
theorem dX4_keyword_17 : decode cX4_keyword 17 = .ok (.goto 5, 3) := dk_167 0 5 (dk_at dksX4_keyword_0 17 rfl rfl)
theorem dX4_keyword_20 : decode cX4_keyword 20 = .ok (.ldc 98, 2) := dk_18 98 (dk_at dksX4_keyword_0 20 rfl rfl)
theorem dX4_keyword_22 : decode cX4_keyword 22 = .ok (.areturn, 1) := dk_176 (dk_at dksX4_keyword_0 22 rfl rfl)
/-- PackingDuel$Scanner.keyword()Ljava/lang/String; -/
def zb316 (G : zPg) (C : zO) (args : List Value) (Q : zQ) (Y : zY) (σ : zS) : Prop := ∃ (a0 : Nat), args = [.ref a0] ∧ (zgRM σ (some a0) [7, 26] 6 (fun v1 => zJ (fun (p9 : Option Nat) (s10 : zS) => Q (some (va_rf p9)) s10) (fun (j11 : Option Nat → zS → Prop) => ((¬ v1 = (some (G.2 50))) → j11 (some (G.2 29)) σ) ∧ ((v1 = (some (G.2 50))) → zgRM σ (some a0) [7, 26] 0 (fun v13 => zrc σ v13 8 (fun a24 => zcl C 350 [.ref a24] Y σ (zqR (fun v21 s22 => j11 v21 s22))))))))
set_option maxHeartbeats 4000000 in
theorem wk316 {l : Launch} {g : zG} {d : Nat} {C : zO} (hG : zGk g) (hC : zSound l g d C) {args : List Value} {Q : zQ} {Y : zY} {σ : zS} (hw : zb316 (zpg g) C args Q Y σ) : zMet l g (d + 1) (⟨"PackingDuel$Scanner", "keyword", "()Ljava/lang/String;"⟩, Cond.code ⟨"PackingDuel$Scanner", "keyword", "()Ljava/lang/String;"⟩ prog_19_method_9_code 1 (Option.some (FieldType.object "java/lang/String"))) args σ Q Y := by
  obtain ⟨a0, rfl, hw⟩ := hw
  refine zof hG (by decide +kernel) [false] ⟨rfl, trivial⟩ (Nat.le_of_ble_eq_true rfl) (ls := [some (va_rf (some a0))]) rfl ?_
  intro X hX hR hTb hd1 hd2 hl hg hnm
  subst hl
  subst hg
  have hd : zDep X d := ⟨hd1, hd2⟩
  refine z_aload_n hX dX4_keyword_0 rfl (i := 0) rfl ?_
  obtain ⟨a2, c7, f3, v1, r4, h8, m5, e6, hw⟩ := hw
  refine z_getM hX (cs := [7, 26]) (k := 6) (t := ("PackingDuel$Scanner", "token", "LPackingDuel$Token;", false)) dX4_keyword_1 (zfa1 ⟨_, _, _, _, zc7, (Nat.le_of_ble_eq_true rfl), rfl⟩ (zfa1 ⟨_, _, _, _, zc26, (Nat.le_of_ble_eq_true rfl), rfl⟩ (zfa0))) (zlk hX q1387) r4 h8 m5 e6 ?_
  refine z_gets hX dX4_keyword_4 (List.mem_of_getElem? (i := 0) rfl) q1362 rfl ?_
  show zW _ _ _ _ (va_rf (some (X.g.2.2.2 50)) :: _)
  refine zJ_w (P := fun (j : Option Nat → zS → Prop) => ∀ (p9 : Option Nat) (s10 : zS), j p9 s10 → zW X s10 22 [none] [va_rf p9]) hw (fun p9 s10 hw => ?_) (fun j11 hj11 hw => ?_)
  · exact z_areturn hX hR dX4_keyword_22 (Or.inl ⟨_, rfl⟩) hw
  · refine z_acmp_ne hX dX4_keyword_7 (tgt := 20) rfl (fun c12 => ?_) (fun c12 => ?_)
    · have hw := hw.1 c12
      refine z_ldcS hX (tx := "") (j := 29) dX4_keyword_20 (List.mem_of_getElem? (i := 29) rfl) ?_
      refine z_sub (ls' := [none]) (zsN (zs0)) ?_
      exact hj11 _ _ hw
    · have hw := hw.2 c12
      refine z_aload_n hX dX4_keyword_10 rfl (i := 0) rfl ?_
      obtain ⟨a14, c19, f15, v13, r16, h20, m17, e18, hw⟩ := hw
      refine z_getM hX (cs := [7, 26]) (k := 0) (t := ("PackingDuel$Scanner", "word", "Ljava/lang/StringBuilder;", true)) dX4_keyword_11 (zfa1 ⟨_, _, _, _, zc7, (Nat.le_of_ble_eq_true rfl), rfl⟩ (zfa1 ⟨_, _, _, _, zc26, (Nat.le_of_ble_eq_true rfl), rfl⟩ (zfa0))) (zlk hX q1377) r16 h20 m17 e18 ?_
      obtain ⟨a24, f25, r26, m27, hw⟩ := hw
      refine z_invV hX hd r26 (ci := 8) rfl rfl m27 dX4_keyword_14 (hC 350 _ zm350 _ _ _ _ hw) q1427 q1269 q1270 zh16 q1271 q145 zn350 rfl (Nat.le_of_ble_eq_true rfl) (st := []) rfl (zcs8 (Nat.le_of_ble_eq_true rfl)) rfl (zkR (fun v21 s22 hw => ?_)) (zout hX hR hTb)
      refine z_goto hX dX4_keyword_17 (tgt := 22) rfl ?_
      refine z_sub (ls' := [none]) (zsN (zs0)) ?_
      exact hj11 _ _ hw
abbrev cX4_check : ByteArray := prog_19_method_6_code
def yX4_check : MethodName := ⟨RX4, "check", "(ZI)V"⟩
def dkwX4_check_0 : List UInt8 := [27, 154, 0, 17, 187, 0, 89, 89, 28, 42, 180, 0, 40, 1, 183, 0, 91, 191, 177]
abbrev dktX4_check_0 : List UInt8 := dkwX4_check_0 ++ []
theorem dksX4_check_0 : cX4_check.data.toList.drop 0 = dktX4_check_0 := by decide +kernel
theorem dX4_check_0 : decode cX4_check 0 = .ok (.iload_n 1, 1) := dk_27 (dk_at dksX4_check_0 0 rfl rfl)
theorem dX4_check_1 : decode cX4_check 1 = .ok (.ifCond .ne 17, 3) := dk_154 0 17 (dk_at dksX4_check_0 1 rfl rfl)
theorem dX4_check_4 : decode cX4_check 4 = .ok (.new 89, 3) := dk_187 0 89 (dk_at dksX4_check_0 4 rfl rfl)
theorem dX4_check_7 : decode cX4_check 7 = .ok (.dup, 1) := dk_89 (dk_at dksX4_check_0 7 rfl rfl)
theorem dX4_check_8 : decode cX4_check 8 = .ok (.iload_n 2, 1) := dk_28 (dk_at dksX4_check_0 8 rfl rfl)
theorem dX4_check_9 : decode cX4_check 9 = .ok (.aload_n 0, 1) := dk_42 (dk_at dksX4_check_0 9 rfl rfl)
theorem dX4_check_10 : decode cX4_check 10 = .ok (.getfield 40, 3) := dk_180 0 40 (dk_at dksX4_check_0 10 rfl rfl)
theorem dX4_check_13 : decode cX4_check 13 = .ok (.aconst_null, 1) := dk_1 (dk_at dksX4_check_0 13 rfl rfl)
theorem dX4_check_14 : decode cX4_check 14 = .ok (.invokespecial 91, 3) := dk_183 0 91 (dk_at dksX4_check_0 14 rfl rfl)
theorem dX4_check_17 : decode cX4_check 17 = .ok (.athrow, 1) := dk_191 (dk_at dksX4_check_0 17 rfl rfl)
theorem dX4_check_18 : decode cX4_check 18 = .ok (.return_, 1) := dk_177 (dk_at dksX4_check_0 18 rfl rfl)
/-- PackingDuel$Scanner.check(ZI)V -/
def zb317 (G : zPg) (C : zO) (args : List Value) (Q : zQ) (Y : zY) (σ : zS) : Prop := ∃ (a0 : Nat) (x1 : Int32) (x2 : Int32), args = [.ref a0, .int x1, .int x2] ∧ (((¬ x1 = 0) → Q none σ) ∧ ((x1 = 0) → znew σ 11 [va_rf none, va_rf none, va_rf none, va_rf none, va_rf none, .int 0, .int 0, .int 0] 8 (fun s2 => zgIM s2 (some a0) [7, 26] 3 (fun v5 => (∃ a16, (some σ.2.1) = some a16 ∧ zcl C 445 [.ref a16, .int x2, .int v5, va_rf none] Y s2 (zqV (fun s14 => ∃ q18, (some σ.2.1) = some q18 ∧ Y q18 s14)))))))
set_option maxHeartbeats 4000000 in
theorem wk317 {l : Launch} {g : zG} {d : Nat} {C : zO} (hG : zGk g) (hC : zSound l g d C) {args : List Value} {Q : zQ} {Y : zY} {σ : zS} (hw : zb317 (zpg g) C args Q Y σ) : zMet l g (d + 1) (⟨"PackingDuel$Scanner", "check", "(ZI)V"⟩, Cond.code ⟨"PackingDuel$Scanner", "check", "(ZI)V"⟩ prog_19_method_6_code 3 (Option.none : Option FieldType)) args σ Q Y := by
  obtain ⟨a0, x1, x2, rfl, hw⟩ := hw
  refine zof hG (by decide +kernel) [false, false, false] ⟨rfl, rfl, rfl, trivial⟩ (Nat.le_of_ble_eq_true rfl) (ls := [some (va_rf (some a0)), some (.int x1), some (.int x2)]) rfl ?_
  intro X hX hR hTb hd1 hd2 hl hg hnm
  subst hl
  subst hg
  have hd : zDep X d := ⟨hd1, hd2⟩
  refine z_iload_n hX dX4_check_0 rfl (i := 1) rfl ?_
  refine z_if_ne hX dX4_check_1 (tgt := 18) rfl (fun c1 => ?_) (fun c1 => ?_)
  · have hw := hw.1 c1
    exact z_return hX hR dX4_check_18 hw
  · have hw := hw.2 c1
    refine z_new hX zc11 dX4_check_4 q1443 q1444 q157 (fs := [va_rf none, va_rf none, va_rf none, va_rf none, va_rf none, .int 0, .int 0, .int 0]) (fun j hj => by have hj : j < 8 := hj; exact zdf11 j hj) hw.1 hw.2.1 (fun z3 => z_nm (fun s2 e4 => ?_))
    have hw := hw.2.2 z3 s2 e4
    refine z_dup hX dX4_check_7 (zc_rf _) ?_
    refine z_iload_n hX dX4_check_8 rfl (i := 2) rfl ?_
    refine z_aload_n hX dX4_check_9 rfl (i := 0) rfl ?_
    obtain ⟨a6, c11, f7, v5, r8, h12, m9, e10, hw⟩ := hw
    refine z_getM hX (cs := [7, 26]) (k := 3) (t := ("PackingDuel$Scanner", "begin", "I", false)) dX4_check_10 (zfa1 ⟨_, _, _, _, zc7, (Nat.le_of_ble_eq_true rfl), rfl⟩ (zfa1 ⟨_, _, _, _, zc26, (Nat.le_of_ble_eq_true rfl), rfl⟩ (zfa0))) (zlk hX q1380) r8 h12 m9 e10 ?_
    refine z_null hX dX4_check_13 ?_
    obtain ⟨a16, r17, hw⟩ := hw
    refine z_invI hX hd r17 dX4_check_14 (hC 445 _ zm445 _ _ _ _ hw) q1452 q1453 rfl zh26 q1454 q157 zn445 rfl (Nat.le_of_ble_eq_true rfl) (st := [va_rf (some σ.2.1)]) rfl (zcs8 (Nat.le_of_ble_eq_true rfl)) rfl (zkV (fun s14 hw => ?_)) (zout hX hR hTb)
    obtain ⟨q18, r19, hw⟩ := hw
    exact z_athrow hX dX4_check_17 r19 ((zout hX hR hTb) _ _ hw)
abbrev cX4_number : ByteArray := prog_19_method_14_code
def yX4_number : MethodName := ⟨RX4, "number", "(II)I"⟩
def dkwX4_number_0 : List UInt8 := [42, 27, 28, 182, 0, 116, 62, 42, 182, 0, 26, 29, 172]
abbrev dktX4_number_0 : List UInt8 := dkwX4_number_0 ++ []
theorem dksX4_number_0 : cX4_number.data.toList.drop 0 = dktX4_number_0 := by decide +kernel
theorem dX4_number_0 : decode cX4_number 0 = .ok (.aload_n 0, 1) := dk_42 (dk_at dksX4_number_0 0 rfl rfl)
theorem dX4_number_1 : decode cX4_number 1 = .ok (.iload_n 1, 1) := dk_27 (dk_at dksX4_number_0 1 rfl rfl)
theorem dX4_number_2 : decode cX4_number 2 = .ok (.iload_n 2, 1) := dk_28 (dk_at dksX4_number_0 2 rfl rfl)
theorem dX4_number_3 : decode cX4_number 3 = .ok (.invokevirtual 116, 3) := dk_182 0 116 (dk_at dksX4_number_0 3 rfl rfl)
theorem dX4_number_6 : decode cX4_number 6 = .ok (.istore_n 3, 1) := dk_62 (dk_at dksX4_number_0 6 rfl rfl)
theorem dX4_number_7 : decode cX4_number 7 = .ok (.aload_n 0, 1) := dk_42 (dk_at dksX4_number_0 7 rfl rfl)
theorem dX4_number_8 : decode cX4_number 8 = .ok (.invokevirtual 26, 3) := dk_182 0 26 (dk_at dksX4_number_0 8 rfl rfl)
theorem dX4_number_11 : decode cX4_number 11 = .ok (.iload_n 3, 1) := dk_29 (dk_at dksX4_number_0 11 rfl rfl)
theorem dX4_number_12 : decode cX4_number 12 = .ok (.ireturn, 1) := dk_172 (dk_at dksX4_number_0 12 rfl rfl)
/-- PackingDuel$Scanner.number(II)I -/
def zb318 (G : zPg) (C : zO) (args : List Value) (Q : zQ) (Y : zY) (σ : zS) : Prop := ∃ (a0 : Nat) (x1 : Int32) (x2 : Int32), args = [.ref a0, .int x1, .int x2] ∧ (zJ (fun (v1 : Int32) (s2 : zS) => zJ (fun (s12 : zS) => Q (some (.int v1)) s12) (fun (j14 : zS → Prop) => zrcM s2 (some a0) [7, 26] (fun a15 c16 => (c16 = 7 → zcl C 311 [.ref a15] Y s2 (zqV j14)) ∧ (c16 = 26 → zcl C 311 [.ref a15] Y s2 (zqV j14))))) (fun (j4 : Int32 → zS → Prop) => zrcM σ (some a0) [7, 26] (fun a5 c6 => (c6 = 7 → zcl C 319 [.ref a5, .int x1, .int x2] Y σ (zqI j4)) ∧ (c6 = 26 → zcl C 319 [.ref a5, .int x1, .int x2] Y σ (zqI j4)))))
set_option maxHeartbeats 4000000 in
theorem wk318 {l : Launch} {g : zG} {d : Nat} {C : zO} (hG : zGk g) (hC : zSound l g d C) {args : List Value} {Q : zQ} {Y : zY} {σ : zS} (hw : zb318 (zpg g) C args Q Y σ) : zMet l g (d + 1) (⟨"PackingDuel$Scanner", "number", "(II)I"⟩, Cond.code ⟨"PackingDuel$Scanner", "number", "(II)I"⟩ prog_19_method_14_code 4 (Option.some FieldType.int)) args σ Q Y := by
  obtain ⟨a0, x1, x2, rfl, hw⟩ := hw
  refine zof hG (by decide +kernel) [false, false, false] ⟨rfl, rfl, rfl, trivial⟩ (Nat.le_of_ble_eq_true rfl) (ls := [some (va_rf (some a0)), some (.int x1), some (.int x2), none]) rfl ?_
  intro X hX hR hTb hd1 hd2 hl hg hnm
  subst hl
  subst hg
  have hd : zDep X d := ⟨hd1, hd2⟩
  refine z_aload_n hX dX4_number_0 rfl (i := 0) rfl ?_
  refine z_iload_n hX dX4_number_1 rfl (i := 1) rfl ?_
  refine z_iload_n hX dX4_number_2 rfl (i := 2) rfl ?_
  refine zJ_v (P := fun (j : Int32 → zS → Prop) => ∀ (v1 : Int32) (s2 : zS), j v1 s2 → zW X s2 6 [some (va_rf (some a0)), some (.int x1), some (.int x2), none] [.int v1]) hw (fun j4 hj4 hw => ?_) (fun v1 s2 hw => ?_)
  · obtain ⟨a5, c6, f7, r8, h9, m10, hw⟩ := hw
    simp only [List.mem_cons, List.not_mem_nil, or_false] at h9
    rcases h9 with rfl | rfl
    · have hw := hw.1 rfl
      refine z_invV hX hd r8 (ci := 7) rfl rfl m10 dX4_number_3 (hC 319 _ zm319 _ _ _ _ hw) q1477 q1478 q1480 zh13 q1482 q142 zn319 rfl (Nat.le_of_ble_eq_true rfl) (st := []) rfl (zcs8 (Nat.le_of_ble_eq_true rfl)) rfl (zkI (fun v1 s2 hw => ?_)) (zout hX hR hTb)
      exact hj4 _ _ hw
    · have hw := hw.2 rfl
      refine z_invV hX hd r8 (ci := 26) rfl rfl m10 dX4_number_3 (hC 319 _ zm319 _ _ _ _ hw) q1477 q1478 q1481 zh13 q1482 q142 zn319 rfl (Nat.le_of_ble_eq_true rfl) (st := []) rfl (zcs8 (Nat.le_of_ble_eq_true rfl)) rfl (zkI (fun v1 s2 hw => ?_)) (zout hX hR hTb)
      exact hj4 _ _ hw
  refine z_istore_n hX dX4_number_6 rfl (i := 3) (Nat.le_of_ble_eq_true rfl) rfl (ls2 := [some (va_rf (some a0)), some (.int x1), some (.int x2), some (.int v1)]) rfl ?_
  refine z_aload_n hX dX4_number_7 rfl (i := 0) rfl ?_
  refine zJ_v (P := fun (j : zS → Prop) => ∀ (s12 : zS), j s12 → zW X s12 11 [some (va_rf (some a0)), some (.int x1), some (.int x2), some (.int v1)] []) hw (fun j14 hj14 hw => ?_) (fun s12 hw => ?_)
  · obtain ⟨a15, c16, f17, r18, h19, m20, hw⟩ := hw
    simp only [List.mem_cons, List.not_mem_nil, or_false] at h19
    rcases h19 with rfl | rfl
    · have hw := hw.1 rfl
      refine z_invV hX hd r18 (ci := 7) rfl rfl m20 dX4_number_8 (hC 311 _ zm311 _ _ _ _ hw) q1125 q1126 q1128 zh13 q1130 q142 zn311 rfl (Nat.le_of_ble_eq_true rfl) (st := []) rfl (zcs8 (Nat.le_of_ble_eq_true rfl)) rfl (zkV (fun s12 hw => ?_)) (zout hX hR hTb)
      exact hj14 _ hw
    · have hw := hw.2 rfl
      refine z_invV hX hd r18 (ci := 26) rfl rfl m20 dX4_number_8 (hC 311 _ zm311 _ _ _ _ hw) q1125 q1126 q1129 zh13 q1130 q142 zn311 rfl (Nat.le_of_ble_eq_true rfl) (st := []) rfl (zcs8 (Nat.le_of_ble_eq_true rfl)) rfl (zkV (fun s12 hw => ?_)) (zout hX hR hTb)
      exact hj14 _ hw
  refine z_iload_n hX dX4_number_11 rfl (i := 3) rfl ?_
  exact z_ireturn hX hR dX4_number_12 rfl hw
abbrev cX4_peek : ByteArray := prog_19_method_13_code
def yX4_peek : MethodName := ⟨RX4, "peek", "(II)I"⟩
def dkwX4_peek_2 : List UInt8 := [42, 180, 0, 70, 172]
abbrev dktX4_peek_2 : List UInt8 := dkwX4_peek_2 ++ []
def dkwX4_peek_1 : List UInt8 := [180, 0, 70, 27, 161, 0, 15, 42, 180, 0, 70, 28, 163, 0, 7, 4, 167, 0, 4, 3, 5, 182, 0, 112]
abbrev dktX4_peek_1 : List UInt8 := dkwX4_peek_1 ++ dktX4_peek_2
def dkwX4_peek_0 : List UInt8 := [42, 42, 180, 0, 53, 178, 0, 80, 166, 0, 7, 4, 167, 0, 4, 3, 4, 182, 0, 112, 42, 42]
abbrev dktX4_peek_0 : List UInt8 := dkwX4_peek_0 ++ dktX4_peek_1
theorem dksX4_peek_0 : cX4_peek.data.toList.drop 0 = dktX4_peek_0 := by decide +kernel
theorem dksX4_peek_1 : cX4_peek.data.toList.drop 22 = dktX4_peek_1 := dk_seg dksX4_peek_0 22 rfl rfl
theorem dksX4_peek_2 : cX4_peek.data.toList.drop 46 = dktX4_peek_2 := dk_seg dksX4_peek_1 24 rfl rfl
theorem dX4_peek_0 : decode cX4_peek 0 = .ok (.aload_n 0, 1) := dk_42 (dk_at dksX4_peek_0 0 rfl rfl)
theorem dX4_peek_1 : decode cX4_peek 1 = .ok (.aload_n 0, 1) := dk_42 (dk_at dksX4_peek_0 1 rfl rfl)
theorem dX4_peek_2 : decode cX4_peek 2 = .ok (.getfield 53, 3) := dk_180 0 53 (dk_at dksX4_peek_0 2 rfl rfl)
theorem dX4_peek_5 : decode cX4_peek 5 = .ok (.getstatic 80, 3) := dk_178 0 80 (dk_at dksX4_peek_0 5 rfl rfl)
theorem dX4_peek_8 : decode cX4_peek 8 = .ok (.if_acmp .ne 7, 3) := dk_166 0 7 (dk_at dksX4_peek_0 8 rfl rfl)
theorem dX4_peek_11 : decode cX4_peek 11 = .ok (.iconst 1, 1) := dk_4 (dk_at dksX4_peek_0 11 rfl rfl)
theorem dX4_peek_12 : decode cX4_peek 12 = .ok (.goto 4, 3) := dk_167 0 4 (dk_at dksX4_peek_0 12 rfl rfl)
theorem dX4_peek_15 : decode cX4_peek 15 = .ok (.iconst 0, 1) := dk_3 (dk_at dksX4_peek_0 15 rfl rfl)
theorem dX4_peek_16 : decode cX4_peek 16 = .ok (.iconst 1, 1) := dk_4 (dk_at dksX4_peek_0 16 rfl rfl)
theorem dX4_peek_17 : decode cX4_peek 17 = .ok (.invokevirtual 112, 3) := dk_182 0 112 (dk_at dksX4_peek_0 17 rfl rfl)
theorem dX4_peek_20 : decode cX4_peek 20 = .ok (.aload_n 0, 1) := dk_42 (dk_at dksX4_peek_0 20 rfl rfl)
theorem dX4_peek_21 : decode cX4_peek 21 = .ok (.aload_n 0, 1) := dk_42 (dk_at dksX4_peek_0 21 rfl rfl)
theorem dX4_peek_22 : decode cX4_peek 22 = .ok (.getfield 70, 3) := dk_180 0 70 (dk_at dksX4_peek_1 0 rfl rfl)
theorem dX4_peek_25 : decode cX4_peek 25 = .ok (.iload_n 1, 1) := dk_27 (dk_at dksX4_peek_1 3 rfl rfl)
theorem dX4_peek_26 : decode cX4_peek 26 = .ok (.if_icmp .lt 15, 3) := dk_161 0 15 (dk_at dksX4_peek_1 4 rfl rfl)
theorem dX4_peek_29 : decode cX4_peek 29 = .ok (.aload_n 0, 1) := dk_42 (dk_at dksX4_peek_1 7 rfl rfl)
theorem dX4_peek_30 : decode cX4_peek 30 = .ok (.getfield 70, 3) := dk_180 0 70 (dk_at dksX4_peek_1 8 rfl rfl)
theorem dX4_peek_33 : decode cX4_peek 33 = .ok (.iload_n 2, 1) := dk_28 (dk_at dksX4_peek_1 11 rfl rfl)
theorem dX4_peek_34 : decode cX4_peek 34 = .ok (.if_icmp .gt 7, 3) := dk_163 0 7 (dk_at dksX4_peek_1 12 rfl rfl)
theorem dX4_peek_37 : decode cX4_peek 37 = .ok (.iconst 1, 1) := dk_4 (dk_at dksX4_peek_1 15 rfl rfl)
theorem dX4_peek_38 : decode cX4_peek 38 = .ok (.goto 4, 3) := dk_167 0 4 (dk_at dksX4_peek_1 16 rfl rfl)
theorem dX4_peek_41 : decode cX4_peek 41 = .ok (.iconst 0, 1) := dk_3 (dk_at dksX4_peek_1 19 rfl rfl)
theorem dX4_peek_42 : decode cX4_peek 42 = .ok (.iconst 2, 1) := dk_5 (dk_at dksX4_peek_1 20 rfl rfl)
theorem dX4_peek_43 : decode cX4_peek 43 = .ok (.invokevirtual 112, 3) := dk_182 0 112 (dk_at dksX4_peek_1 21 rfl rfl)
theorem dX4_peek_46 : decode cX4_peek 46 = .ok (.aload_n 0, 1) := dk_42 (dk_at dksX4_peek_2 0 rfl rfl)
theorem dX4_peek_47 : decode cX4_peek 47 = .ok (.getfield 70, 3) := dk_180 0 70 (dk_at dksX4_peek_2 1 rfl rfl)
theorem dX4_peek_50 : decode cX4_peek 50 = .ok (.ireturn, 1) := dk_172 (dk_at dksX4_peek_2 4 rfl rfl)
/-- PackingDuel$Scanner.peek(II)I -/
def zb319 (G : zPg) (C : zO) (args : List Value) (Q : zQ) (Y : zY) (σ : zS) : Prop := ∃ (a0 : Nat) (x1 : Int32) (x2 : Int32), args = [.ref a0, .int x1, .int x2] ∧ (zgRM σ (some a0) [7, 26] 6 (fun v1 => zJ (fun (p9 : Int32) (s10 : zS) => zJ (fun (s13 : zS) => zgIM s13 (some a0) [7, 26] 4 (fun v22 => zJ (fun (p30 : Int32) (s31 : zS) => zJ (fun (s34 : zS) => zgIM s34 (some a0) [7, 26] 4 (fun v43 => Q (some (.int v43)) s34)) (fun (j36 : zS → Prop) => zrcM s31 (some a0) [7, 26] (fun a37 c38 => (c38 = 7 → zcl C 317 [.ref a37, .int p30, .int (2 : Int32)] Y s31 (zqV j36)) ∧ (c38 = 26 → zcl C 317 [.ref a37, .int p30, .int (2 : Int32)] Y s31 (zqV j36))))) (fun (j32 : Int32 → zS → Prop) => zJ (fun  (s51 : zS) => j32 (0 : Int32) s51) (fun (j52 : zS → Prop) => ((v22 < x1) → j52 s13) ∧ ((¬ v22 < x1) → zgIM s13 (some a0) [7, 26] 4 (fun v54 => ((x2 < v54) → j52 s13) ∧ ((¬ x2 < v54) → j32 (1 : Int32) s13))))))) (fun (j15 : zS → Prop) => zrcM s10 (some a0) [7, 26] (fun a16 c17 => (c17 = 7 → zcl C 317 [.ref a16, .int p9, .int (1 : Int32)] Y s10 (zqV j15)) ∧ (c17 = 26 → zcl C 317 [.ref a16, .int p9, .int (1 : Int32)] Y s10 (zqV j15))))) (fun (j11 : Int32 → zS → Prop) => ((¬ v1 = (some (G.2 51))) → j11 (0 : Int32) σ) ∧ ((v1 = (some (G.2 51))) → j11 (1 : Int32) σ))))
set_option maxHeartbeats 4000000 in
theorem wk319 {l : Launch} {g : zG} {d : Nat} {C : zO} (hG : zGk g) (hC : zSound l g d C) {args : List Value} {Q : zQ} {Y : zY} {σ : zS} (hw : zb319 (zpg g) C args Q Y σ) : zMet l g (d + 1) (⟨"PackingDuel$Scanner", "peek", "(II)I"⟩, Cond.code ⟨"PackingDuel$Scanner", "peek", "(II)I"⟩ prog_19_method_13_code 3 (Option.some FieldType.int)) args σ Q Y := by
  obtain ⟨a0, x1, x2, rfl, hw⟩ := hw
  refine zof hG (by decide +kernel) [false, false, false] ⟨rfl, rfl, rfl, trivial⟩ (Nat.le_of_ble_eq_true rfl) (ls := [some (va_rf (some a0)), some (.int x1), some (.int x2)]) rfl ?_
  intro X hX hR hTb hd1 hd2 hl hg hnm
  subst hl
  subst hg
  have hd : zDep X d := ⟨hd1, hd2⟩
  refine z_aload_n hX dX4_peek_0 rfl (i := 0) rfl ?_
  refine z_aload_n hX dX4_peek_1 rfl (i := 0) rfl ?_
  obtain ⟨a2, c7, f3, v1, r4, h8, m5, e6, hw⟩ := hw
  refine z_getM hX (cs := [7, 26]) (k := 6) (t := ("PackingDuel$Scanner", "token", "LPackingDuel$Token;", false)) dX4_peek_2 (zfa1 ⟨_, _, _, _, zc7, (Nat.le_of_ble_eq_true rfl), rfl⟩ (zfa1 ⟨_, _, _, _, zc26, (Nat.le_of_ble_eq_true rfl), rfl⟩ (zfa0))) (zlk hX q1387) r4 h8 m5 e6 ?_
  refine z_gets hX dX4_peek_5 (List.mem_of_getElem? (i := 1) rfl) q1369 rfl ?_
  show zW _ _ _ _ (va_rf (some (X.g.2.2.2 51)) :: _)
  refine zJ_w (P := fun (j : Int32 → zS → Prop) => ∀ (p9 : Int32) (s10 : zS), j p9 s10 → zW X s10 16 [some (va_rf (some a0)), some (.int x1), some (.int x2)] [.int p9, va_rf (some a0)]) hw (fun p9 s10 hw => ?_) (fun j11 hj11 hw => ?_)
  · refine z_iconst hX (v := (1 : Int32)) dX4_peek_16 (by decide) ?_
    refine zJ_v (P := fun (j : zS → Prop) => ∀ (s13 : zS), j s13 → zW X s13 20 [some (va_rf (some a0)), some (.int x1), some (.int x2)] []) hw (fun j15 hj15 hw => ?_) (fun s13 hw => ?_)
    · obtain ⟨a16, c17, f18, r19, h20, m21, hw⟩ := hw
      simp only [List.mem_cons, List.not_mem_nil, or_false] at h20
      rcases h20 with rfl | rfl
      · have hw := hw.1 rfl
        refine z_invV hX hd r19 (ci := 7) rfl rfl m21 dX4_peek_17 (hC 317 _ zm317 _ _ _ _ hw) q1483 q1441 q3177 zh13 q1442 q142 zn317 rfl (Nat.le_of_ble_eq_true rfl) (st := []) rfl (zcs8 (Nat.le_of_ble_eq_true rfl)) rfl (zkV (fun s13 hw => ?_)) (zout hX hR hTb)
        exact hj15 _ hw
      · have hw := hw.2 rfl
        refine z_invV hX hd r19 (ci := 26) rfl rfl m21 dX4_peek_17 (hC 317 _ zm317 _ _ _ _ hw) q1483 q1441 q3178 zh13 q1442 q142 zn317 rfl (Nat.le_of_ble_eq_true rfl) (st := []) rfl (zcs8 (Nat.le_of_ble_eq_true rfl)) rfl (zkV (fun s13 hw => ?_)) (zout hX hR hTb)
        exact hj15 _ hw
    refine z_aload_n hX dX4_peek_20 rfl (i := 0) rfl ?_
    refine z_aload_n hX dX4_peek_21 rfl (i := 0) rfl ?_
    obtain ⟨a23, c28, f24, v22, r25, h29, m26, e27, hw⟩ := hw
    refine z_getM hX (cs := [7, 26]) (k := 4) (t := ("PackingDuel$Scanner", "value", "I", false)) dX4_peek_22 (zfa1 ⟨_, _, _, _, zc7, (Nat.le_of_ble_eq_true rfl), rfl⟩ (zfa1 ⟨_, _, _, _, zc26, (Nat.le_of_ble_eq_true rfl), rfl⟩ (zfa0))) (zlk hX q1381) r25 h29 m26 e27 ?_
    refine z_iload_n hX dX4_peek_25 rfl (i := 1) rfl ?_
    refine zJ_w (P := fun (j : Int32 → zS → Prop) => ∀ (p30 : Int32) (s31 : zS), j p30 s31 → zW X s31 42 [some (va_rf (some a0)), none, none] [.int p30, va_rf (some a0)]) hw (fun p30 s31 hw => ?_) (fun j32 hj32 hw => ?_)
    · refine z_iconst hX (v := (2 : Int32)) dX4_peek_42 (by decide) ?_
      refine zJ_v (P := fun (j : zS → Prop) => ∀ (s34 : zS), j s34 → zW X s34 46 [some (va_rf (some a0)), none, none] []) hw (fun j36 hj36 hw => ?_) (fun s34 hw => ?_)
      · obtain ⟨a37, c38, f39, r40, h41, m42, hw⟩ := hw
        simp only [List.mem_cons, List.not_mem_nil, or_false] at h41
        rcases h41 with rfl | rfl
        · have hw := hw.1 rfl
          refine z_invV hX hd r40 (ci := 7) rfl rfl m42 dX4_peek_43 (hC 317 _ zm317 _ _ _ _ hw) q1483 q1441 q3177 zh13 q1442 q142 zn317 rfl (Nat.le_of_ble_eq_true rfl) (st := []) rfl (zcs8 (Nat.le_of_ble_eq_true rfl)) rfl (zkV (fun s34 hw => ?_)) (zout hX hR hTb)
          exact hj36 _ hw
        · have hw := hw.2 rfl
          refine z_invV hX hd r40 (ci := 26) rfl rfl m42 dX4_peek_43 (hC 317 _ zm317 _ _ _ _ hw) q1483 q1441 q3178 zh13 q1442 q142 zn317 rfl (Nat.le_of_ble_eq_true rfl) (st := []) rfl (zcs8 (Nat.le_of_ble_eq_true rfl)) rfl (zkV (fun s34 hw => ?_)) (zout hX hR hTb)
          exact hj36 _ hw
      refine z_aload_n hX dX4_peek_46 rfl (i := 0) rfl ?_
      obtain ⟨a44, c49, f45, v43, r46, h50, m47, e48, hw⟩ := hw
      refine z_getM hX (cs := [7, 26]) (k := 4) (t := ("PackingDuel$Scanner", "value", "I", false)) dX4_peek_47 (zfa1 ⟨_, _, _, _, zc7, (Nat.le_of_ble_eq_true rfl), rfl⟩ (zfa1 ⟨_, _, _, _, zc26, (Nat.le_of_ble_eq_true rfl), rfl⟩ (zfa0))) (zlk hX q1381) r46 h50 m47 e48 ?_
      exact z_ireturn hX hR dX4_peek_50 rfl hw
    · refine zJ_w (P := fun (j : zS → Prop) => ∀  (s51 : zS), j  s51 → zW X s51 41 [some (va_rf (some a0)), none, none] [va_rf (some a0)]) hw (fun  s51 hw => ?_) (fun j52 hj52 hw => ?_)
      · refine z_iconst hX (v := (0 : Int32)) dX4_peek_41 (by decide) ?_
        exact hj32 _ _ hw
      · refine z_icmp_lt hX dX4_peek_26 (tgt := 41) rfl (fun c53 => ?_) (fun c53 => ?_)
        · have hw := hw.1 c53
          refine z_sub (ls' := [some (va_rf (some a0)), none, none]) (zsS (zsN (zsN (zs0)))) ?_
          exact hj52  _ hw
        · have hw := hw.2 c53
          refine z_aload_n hX dX4_peek_29 rfl (i := 0) rfl ?_
          obtain ⟨a55, c60, f56, v54, r57, h61, m58, e59, hw⟩ := hw
          refine z_getM hX (cs := [7, 26]) (k := 4) (t := ("PackingDuel$Scanner", "value", "I", false)) dX4_peek_30 (zfa1 ⟨_, _, _, _, zc7, (Nat.le_of_ble_eq_true rfl), rfl⟩ (zfa1 ⟨_, _, _, _, zc26, (Nat.le_of_ble_eq_true rfl), rfl⟩ (zfa0))) (zlk hX q1381) r57 h61 m58 e59 ?_
          refine z_iload_n hX dX4_peek_33 rfl (i := 2) rfl ?_
          refine z_icmp_gt hX dX4_peek_34 (tgt := 41) rfl (fun c62 => ?_) (fun c62 => ?_)
          · have hw := hw.1 c62
            refine z_sub (ls' := [some (va_rf (some a0)), none, none]) (zsS (zsN (zsN (zs0)))) ?_
            exact hj52  _ hw
          · have hw := hw.2 c62
            refine z_iconst hX (v := (1 : Int32)) dX4_peek_37 (by decide) ?_
            refine z_goto hX dX4_peek_38 (tgt := 42) rfl ?_
            refine z_sub (ls' := [some (va_rf (some a0)), none, none]) (zsS (zsN (zsN (zs0)))) ?_
            exact hj32 _ _ hw
  · refine z_acmp_ne hX dX4_peek_8 (tgt := 15) rfl (fun c63 => ?_) (fun c63 => ?_)
    · have hw := hw.1 c63
      refine z_iconst hX (v := (0 : Int32)) dX4_peek_15 (by decide) ?_
      exact hj11 _ _ hw
    · have hw := hw.2 c63
      refine z_iconst hX (v := (1 : Int32)) dX4_peek_11 (by decide) ?_
      refine z_goto hX dX4_peek_12 (tgt := 16) rfl ?_
      exact hj11 _ _ hw
abbrev cX4_expectSign : ByteArray := prog_19_method_11_code
def yX4_expectSign : MethodName := ⟨RX4, "expectSign", "(I)V"⟩
def dkwX4_expectSign_0 : List UInt8 := [42, 42, 27, 182, 0, 109, 4, 182, 0, 112, 42, 182, 0, 26, 177]
abbrev dktX4_expectSign_0 : List UInt8 := dkwX4_expectSign_0 ++ []
theorem dksX4_expectSign_0 : cX4_expectSign.data.toList.drop 0 = dktX4_expectSign_0 := by decide +kernel
theorem dX4_expectSign_0 : decode cX4_expectSign 0 = .ok (.aload_n 0, 1) := dk_42 (dk_at dksX4_expectSign_0 0 rfl rfl)
theorem dX4_expectSign_1 : decode cX4_expectSign 1 = .ok (.aload_n 0, 1) := dk_42 (dk_at dksX4_expectSign_0 1 rfl rfl)
theorem dX4_expectSign_2 : decode cX4_expectSign 2 = .ok (.iload_n 1, 1) := dk_27 (dk_at dksX4_expectSign_0 2 rfl rfl)
theorem dX4_expectSign_3 : decode cX4_expectSign 3 = .ok (.invokevirtual 109, 3) := dk_182 0 109 (dk_at dksX4_expectSign_0 3 rfl rfl)
theorem dX4_expectSign_6 : decode cX4_expectSign 6 = .ok (.iconst 1, 1) := dk_4 (dk_at dksX4_expectSign_0 6 rfl rfl)
theorem dX4_expectSign_7 : decode cX4_expectSign 7 = .ok (.invokevirtual 112, 3) := dk_182 0 112 (dk_at dksX4_expectSign_0 7 rfl rfl)
theorem dX4_expectSign_10 : decode cX4_expectSign 10 = .ok (.aload_n 0, 1) := dk_42 (dk_at dksX4_expectSign_0 10 rfl rfl)
theorem dX4_expectSign_11 : decode cX4_expectSign 11 = .ok (.invokevirtual 26, 3) := dk_182 0 26 (dk_at dksX4_expectSign_0 11 rfl rfl)
theorem dX4_expectSign_14 : decode cX4_expectSign 14 = .ok (.return_, 1) := dk_177 (dk_at dksX4_expectSign_0 14 rfl rfl)
/-- PackingDuel$Scanner.expectSign(I)V -/
def zb320 (G : zPg) (C : zO) (args : List Value) (Q : zQ) (Y : zY) (σ : zS) : Prop := ∃ (a0 : Nat) (x1 : Int32), args = [.ref a0, .int x1] ∧ (zJ (fun (v1 : Int32) (s2 : zS) => zJ (fun (s12 : zS) => zJ (fun (s22 : zS) => Q none s22) (fun (j24 : zS → Prop) => zrcM s12 (some a0) [7, 26] (fun a25 c26 => (c26 = 7 → zcl C 311 [.ref a25] Y s12 (zqV j24)) ∧ (c26 = 26 → zcl C 311 [.ref a25] Y s12 (zqV j24))))) (fun (j14 : zS → Prop) => zrcM s2 (some a0) [7, 26] (fun a15 c16 => (c16 = 7 → zcl C 317 [.ref a15, .int v1, .int (1 : Int32)] Y s2 (zqV j14)) ∧ (c16 = 26 → zcl C 317 [.ref a15, .int v1, .int (1 : Int32)] Y s2 (zqV j14))))) (fun (j4 : Int32 → zS → Prop) => zrcM σ (some a0) [7, 26] (fun a5 c6 => (c6 = 7 → zcl C 321 [.ref a5, .int x1] Y σ (zqI j4)) ∧ (c6 = 26 → zcl C 321 [.ref a5, .int x1] Y σ (zqI j4)))))
set_option maxHeartbeats 4000000 in
theorem wk320 {l : Launch} {g : zG} {d : Nat} {C : zO} (hG : zGk g) (hC : zSound l g d C) {args : List Value} {Q : zQ} {Y : zY} {σ : zS} (hw : zb320 (zpg g) C args Q Y σ) : zMet l g (d + 1) (⟨"PackingDuel$Scanner", "expectSign", "(I)V"⟩, Cond.code ⟨"PackingDuel$Scanner", "expectSign", "(I)V"⟩ prog_19_method_11_code 2 (Option.none : Option FieldType)) args σ Q Y := by
  obtain ⟨a0, x1, rfl, hw⟩ := hw
  refine zof hG (by decide +kernel) [false, false] ⟨rfl, rfl, trivial⟩ (Nat.le_of_ble_eq_true rfl) (ls := [some (va_rf (some a0)), some (.int x1)]) rfl ?_
  intro X hX hR hTb hd1 hd2 hl hg hnm
  subst hl
  subst hg
  have hd : zDep X d := ⟨hd1, hd2⟩
  refine z_aload_n hX dX4_expectSign_0 rfl (i := 0) rfl ?_
  refine z_aload_n hX dX4_expectSign_1 rfl (i := 0) rfl ?_
  refine z_iload_n hX dX4_expectSign_2 rfl (i := 1) rfl ?_
  refine zJ_v (P := fun (j : Int32 → zS → Prop) => ∀ (v1 : Int32) (s2 : zS), j v1 s2 → zW X s2 6 [some (va_rf (some a0)), some (.int x1)] [.int v1, va_rf (some a0)]) hw (fun j4 hj4 hw => ?_) (fun v1 s2 hw => ?_)
  · obtain ⟨a5, c6, f7, r8, h9, m10, hw⟩ := hw
    simp only [List.mem_cons, List.not_mem_nil, or_false] at h9
    rcases h9 with rfl | rfl
    · have hw := hw.1 rfl
      refine z_invV hX hd r8 (ci := 7) rfl rfl m10 dX4_expectSign_3 (hC 321 _ zm321 _ _ _ _ hw) q1491 q1492 q1494 zh13 q1496 q142 zn321 rfl (Nat.le_of_ble_eq_true rfl) (st := [va_rf (some a0)]) rfl (zcs8 (Nat.le_of_ble_eq_true rfl)) rfl (zkI (fun v1 s2 hw => ?_)) (zout hX hR hTb)
      exact hj4 _ _ hw
    · have hw := hw.2 rfl
      refine z_invV hX hd r8 (ci := 26) rfl rfl m10 dX4_expectSign_3 (hC 321 _ zm321 _ _ _ _ hw) q1491 q1492 q1495 zh13 q1496 q142 zn321 rfl (Nat.le_of_ble_eq_true rfl) (st := [va_rf (some a0)]) rfl (zcs8 (Nat.le_of_ble_eq_true rfl)) rfl (zkI (fun v1 s2 hw => ?_)) (zout hX hR hTb)
      exact hj4 _ _ hw
  refine z_iconst hX (v := (1 : Int32)) dX4_expectSign_6 (by decide) ?_
  refine zJ_v (P := fun (j : zS → Prop) => ∀ (s12 : zS), j s12 → zW X s12 10 [some (va_rf (some a0)), some (.int x1)] []) hw (fun j14 hj14 hw => ?_) (fun s12 hw => ?_)
  · obtain ⟨a15, c16, f17, r18, h19, m20, hw⟩ := hw
    simp only [List.mem_cons, List.not_mem_nil, or_false] at h19
    rcases h19 with rfl | rfl
    · have hw := hw.1 rfl
      refine z_invV hX hd r18 (ci := 7) rfl rfl m20 dX4_expectSign_7 (hC 317 _ zm317 _ _ _ _ hw) q1483 q1441 q3177 zh13 q1442 q142 zn317 rfl (Nat.le_of_ble_eq_true rfl) (st := []) rfl (zcs8 (Nat.le_of_ble_eq_true rfl)) rfl (zkV (fun s12 hw => ?_)) (zout hX hR hTb)
      exact hj14 _ hw
    · have hw := hw.2 rfl
      refine z_invV hX hd r18 (ci := 26) rfl rfl m20 dX4_expectSign_7 (hC 317 _ zm317 _ _ _ _ hw) q1483 q1441 q3178 zh13 q1442 q142 zn317 rfl (Nat.le_of_ble_eq_true rfl) (st := []) rfl (zcs8 (Nat.le_of_ble_eq_true rfl)) rfl (zkV (fun s12 hw => ?_)) (zout hX hR hTb)
      exact hj14 _ hw
  refine z_aload_n hX dX4_expectSign_10 rfl (i := 0) rfl ?_
  refine zJ_v (P := fun (j : zS → Prop) => ∀ (s22 : zS), j s22 → zW X s22 14 [some (va_rf (some a0)), some (.int x1)] []) hw (fun j24 hj24 hw => ?_) (fun s22 hw => ?_)
  · obtain ⟨a25, c26, f27, r28, h29, m30, hw⟩ := hw
    simp only [List.mem_cons, List.not_mem_nil, or_false] at h29
    rcases h29 with rfl | rfl
    · have hw := hw.1 rfl
      refine z_invV hX hd r28 (ci := 7) rfl rfl m30 dX4_expectSign_11 (hC 311 _ zm311 _ _ _ _ hw) q1125 q1126 q1128 zh13 q1130 q142 zn311 rfl (Nat.le_of_ble_eq_true rfl) (st := []) rfl (zcs8 (Nat.le_of_ble_eq_true rfl)) rfl (zkV (fun s22 hw => ?_)) (zout hX hR hTb)
      exact hj24 _ hw
    · have hw := hw.2 rfl
      refine z_invV hX hd r28 (ci := 26) rfl rfl m30 dX4_expectSign_11 (hC 311 _ zm311 _ _ _ _ hw) q1125 q1126 q1129 zh13 q1130 q142 zn311 rfl (Nat.le_of_ble_eq_true rfl) (st := []) rfl (zcs8 (Nat.le_of_ble_eq_true rfl)) rfl (zkV (fun s22 hw => ?_)) (zout hX hR hTb)
      exact hj24 _ hw
  exact z_return hX hR dX4_expectSign_14 hw
abbrev cX4_isSign : ByteArray := prog_19_method_8_code
def yX4_isSign : MethodName := ⟨RX4, "isSign", "(I)Z"⟩
def dkwX4_isSign_0 : List UInt8 := [42, 180, 0, 53, 178, 0, 86, 166, 0, 15, 42, 180, 0, 83, 27, 160, 0, 7, 4, 167, 0, 4, 3, 172]
abbrev dktX4_isSign_0 : List UInt8 := dkwX4_isSign_0 ++ []
theorem dksX4_isSign_0 : cX4_isSign.data.toList.drop 0 = dktX4_isSign_0 := by decide +kernel
theorem dX4_isSign_0 : decode cX4_isSign 0 = .ok (.aload_n 0, 1) := dk_42 (dk_at dksX4_isSign_0 0 rfl rfl)
theorem dX4_isSign_1 : decode cX4_isSign 1 = .ok (.getfield 53, 3) := dk_180 0 53 (dk_at dksX4_isSign_0 1 rfl rfl)
theorem dX4_isSign_4 : decode cX4_isSign 4 = .ok (.getstatic 86, 3) := dk_178 0 86 (dk_at dksX4_isSign_0 4 rfl rfl)
theorem dX4_isSign_7 : decode cX4_isSign 7 = .ok (.if_acmp .ne 15, 3) := dk_166 0 15 (dk_at dksX4_isSign_0 7 rfl rfl)
theorem dX4_isSign_10 : decode cX4_isSign 10 = .ok (.aload_n 0, 1) := dk_42 (dk_at dksX4_isSign_0 10 rfl rfl)
theorem dX4_isSign_11 : decode cX4_isSign 11 = .ok (.getfield 83, 3) := dk_180 0 83 (dk_at dksX4_isSign_0 11 rfl rfl)
theorem dX4_isSign_14 : decode cX4_isSign 14 = .ok (.iload_n 1, 1) := dk_27 (dk_at dksX4_isSign_0 14 rfl rfl)
theorem dX4_isSign_15 : decode cX4_isSign 15 = .ok (.if_icmp .ne 7, 3) := dk_160 0 7 (dk_at dksX4_isSign_0 15 rfl rfl)
theorem dX4_isSign_18 : decode cX4_isSign 18 = .ok (.iconst 1, 1) := dk_4 (dk_at dksX4_isSign_0 18 rfl rfl)
theorem dX4_isSign_19 : decode cX4_isSign 19 = .ok (.goto 4, 3) := dk_167 0 4 (dk_at dksX4_isSign_0 19 rfl rfl)
theorem dX4_isSign_22 : decode cX4_isSign 22 = .ok (.iconst 0, 1) := dk_3 (dk_at dksX4_isSign_0 22 rfl rfl)
theorem dX4_isSign_23 : decode cX4_isSign 23 = .ok (.ireturn, 1) := dk_172 (dk_at dksX4_isSign_0 23 rfl rfl)
/-- PackingDuel$Scanner.isSign(I)Z -/
def zb321 (G : zPg) (C : zO) (args : List Value) (Q : zQ) (Y : zY) (σ : zS) : Prop := ∃ (a0 : Nat) (x1 : Int32), args = [.ref a0, .int x1] ∧ (zgRM σ (some a0) [7, 26] 6 (fun v1 => zJ (fun (p9 : Int32) (s10 : zS) => zbool p9 ∧ Q (some (.int p9)) s10) (fun (j11 : Int32 → zS → Prop) => zJ (fun  (s12 : zS) => j11 (0 : Int32) s12) (fun (j13 : zS → Prop) => ((¬ v1 = (some (G.2 52))) → j13 σ) ∧ ((v1 = (some (G.2 52))) → zgIM σ (some a0) [7, 26] 5 (fun v15 => ((¬ v15 = x1) → j13 σ) ∧ ((v15 = x1) → j11 (1 : Int32) σ)))))))
set_option maxHeartbeats 4000000 in
theorem wk321 {l : Launch} {g : zG} {d : Nat} {C : zO} (hG : zGk g) (hC : zSound l g d C) {args : List Value} {Q : zQ} {Y : zY} {σ : zS} (hw : zb321 (zpg g) C args Q Y σ) : zMet l g (d + 1) (⟨"PackingDuel$Scanner", "isSign", "(I)Z"⟩, Cond.code ⟨"PackingDuel$Scanner", "isSign", "(I)Z"⟩ prog_19_method_8_code 2 (Option.some FieldType.boolean)) args σ Q Y := by
  obtain ⟨a0, x1, rfl, hw⟩ := hw
  refine zof hG (by decide +kernel) [false, false] ⟨rfl, rfl, trivial⟩ (Nat.le_of_ble_eq_true rfl) (ls := [some (va_rf (some a0)), some (.int x1)]) rfl ?_
  intro X hX hR hTb hd1 hd2 hl hg hnm
  subst hl
  subst hg
  have hd : zDep X d := ⟨hd1, hd2⟩
  refine z_aload_n hX dX4_isSign_0 rfl (i := 0) rfl ?_
  obtain ⟨a2, c7, f3, v1, r4, h8, m5, e6, hw⟩ := hw
  refine z_getM hX (cs := [7, 26]) (k := 6) (t := ("PackingDuel$Scanner", "token", "LPackingDuel$Token;", false)) dX4_isSign_1 (zfa1 ⟨_, _, _, _, zc7, (Nat.le_of_ble_eq_true rfl), rfl⟩ (zfa1 ⟨_, _, _, _, zc26, (Nat.le_of_ble_eq_true rfl), rfl⟩ (zfa0))) (zlk hX q1387) r4 h8 m5 e6 ?_
  refine z_gets hX dX4_isSign_4 (List.mem_of_getElem? (i := 2) rfl) q1371 rfl ?_
  show zW _ _ _ _ (va_rf (some (X.g.2.2.2 52)) :: _)
  refine zJ_w (P := fun (j : Int32 → zS → Prop) => ∀ (p9 : Int32) (s10 : zS), j p9 s10 → zW X s10 23 [none, none] [.int p9]) hw (fun p9 s10 hw => ?_) (fun j11 hj11 hw => ?_)
  · exact z_ireturn hX hR dX4_isSign_23 (zn_z hw.1) hw.2
  · refine zJ_w (P := fun (j : zS → Prop) => ∀  (s12 : zS), j  s12 → zW X s12 22 [none, none] []) hw (fun  s12 hw => ?_) (fun j13 hj13 hw => ?_)
    · refine z_iconst hX (v := (0 : Int32)) dX4_isSign_22 (by decide) ?_
      exact hj11 _ _ hw
    · refine z_acmp_ne hX dX4_isSign_7 (tgt := 22) rfl (fun c14 => ?_) (fun c14 => ?_)
      · have hw := hw.1 c14
        refine z_sub (ls' := [none, none]) (zsN (zsN (zs0))) ?_
        exact hj13  _ hw
      · have hw := hw.2 c14
        refine z_aload_n hX dX4_isSign_10 rfl (i := 0) rfl ?_
        obtain ⟨a16, c21, f17, v15, r18, h22, m19, e20, hw⟩ := hw
        refine z_getM hX (cs := [7, 26]) (k := 5) (t := ("PackingDuel$Scanner", "sign", "I", false)) dX4_isSign_11 (zfa1 ⟨_, _, _, _, zc7, (Nat.le_of_ble_eq_true rfl), rfl⟩ (zfa1 ⟨_, _, _, _, zc26, (Nat.le_of_ble_eq_true rfl), rfl⟩ (zfa0))) (zlk hX q1382) r18 h22 m19 e20 ?_
        refine z_iload_n hX dX4_isSign_14 rfl (i := 1) rfl ?_
        refine z_icmp_ne hX dX4_isSign_15 (tgt := 22) rfl (fun c23 => ?_) (fun c23 => ?_)
        · have hw := hw.1 c23
          refine z_sub (ls' := [none, none]) (zsN (zsN (zs0))) ?_
          exact hj13  _ hw
        · have hw := hw.2 c23
          refine z_iconst hX (v := (1 : Int32)) dX4_isSign_18 (by decide) ?_
          refine z_goto hX dX4_isSign_19 (tgt := 23) rfl ?_
          refine z_sub (ls' := [none, none]) (zsN (zsN (zs0))) ?_
          exact hj11 _ _ hw
abbrev cX4_position : ByteArray := prog_19_method_7_code
def yX4_position : MethodName := ⟨RX4, "position", "()I"⟩
theorem dX4_position_0 : decode cX4_position 0 = .ok (.aload_n 0, 1) := by decide +kernel
theorem dX4_position_1 : decode cX4_position 1 = .ok (.getfield 40, 3) := by decide +kernel
theorem dX4_position_4 : decode cX4_position 4 = .ok (.ireturn, 1) := by decide +kernel
/-- PackingDuel$Scanner.position()I -/
def zb322 (G : zPg) (C : zO) (args : List Value) (Q : zQ) (Y : zY) (σ : zS) : Prop := ∃ (a0 : Nat), args = [.ref a0] ∧ (zgIM σ (some a0) [7, 26] 3 (fun v1 => Q (some (.int v1)) σ))
set_option maxHeartbeats 4000000 in
theorem wk322 {l : Launch} {g : zG} {d : Nat} {C : zO} (hG : zGk g) (hC : zSound l g d C) {args : List Value} {Q : zQ} {Y : zY} {σ : zS} (hw : zb322 (zpg g) C args Q Y σ) : zMet l g (d + 1) (⟨"PackingDuel$Scanner", "position", "()I"⟩, Cond.code ⟨"PackingDuel$Scanner", "position", "()I"⟩ prog_19_method_7_code 1 (Option.some FieldType.int)) args σ Q Y := by
  obtain ⟨a0, rfl, hw⟩ := hw
  refine zof hG (by decide +kernel) [false] ⟨rfl, trivial⟩ (Nat.le_of_ble_eq_true rfl) (ls := [some (va_rf (some a0))]) rfl ?_
  intro X hX hR hTb hd1 hd2 hl hg hnm
  subst hl
  subst hg
  have hd : zDep X d := ⟨hd1, hd2⟩
  refine z_aload_n hX dX4_position_0 rfl (i := 0) rfl ?_
  obtain ⟨a2, c7, f3, v1, r4, h8, m5, e6, hw⟩ := hw
  refine z_getM hX (cs := [7, 26]) (k := 3) (t := ("PackingDuel$Scanner", "begin", "I", false)) dX4_position_1 (zfa1 ⟨_, _, _, _, zc7, (Nat.le_of_ble_eq_true rfl), rfl⟩ (zfa1 ⟨_, _, _, _, zc26, (Nat.le_of_ble_eq_true rfl), rfl⟩ (zfa0))) (zlk hX q1380) r4 h8 m5 e6 ?_
  exact z_ireturn hX hR dX4_position_4 rfl hw
abbrev cX4_relationSign : ByteArray := prog_19_method_12_code
def yX4_relationSign : MethodName := ⟨RX4, "relationSign", "()I"⟩
def dkwX4_relationSign_2 : List UInt8 := [27, 172]
abbrev dktX4_relationSign_2 : List UInt8 := dkwX4_relationSign_2 ++ []
def dkwX4_relationSign_1 : List UInt8 := [182, 0, 109, 153, 0, 7, 4, 167, 0, 4, 3, 4, 182, 0, 112, 42, 180, 0, 83, 60, 42, 182, 0, 26]
abbrev dktX4_relationSign_1 : List UInt8 := dkwX4_relationSign_1 ++ dktX4_relationSign_2
def dkwX4_relationSign_0 : List UInt8 := [42, 42, 16, 60, 182, 0, 109, 154, 0, 21, 42, 16, 61, 182, 0, 109, 154, 0, 12, 42, 16, 62]
abbrev dktX4_relationSign_0 : List UInt8 := dkwX4_relationSign_0 ++ dktX4_relationSign_1
theorem dksX4_relationSign_0 : cX4_relationSign.data.toList.drop 0 = dktX4_relationSign_0 := by decide +kernel
theorem dksX4_relationSign_1 : cX4_relationSign.data.toList.drop 22 = dktX4_relationSign_1 := dk_seg dksX4_relationSign_0 22 rfl rfl
theorem dksX4_relationSign_2 : cX4_relationSign.data.toList.drop 46 = dktX4_relationSign_2 := dk_seg dksX4_relationSign_1 24 rfl rfl
theorem dX4_relationSign_0 : decode cX4_relationSign 0 = .ok (.aload_n 0, 1) := dk_42 (dk_at dksX4_relationSign_0 0 rfl rfl)
theorem dX4_relationSign_1 : decode cX4_relationSign 1 = .ok (.aload_n 0, 1) := dk_42 (dk_at dksX4_relationSign_0 1 rfl rfl)
theorem dX4_relationSign_2 : decode cX4_relationSign 2 = .ok (.bipush 60, 2) := dk_16 60 (dk_at dksX4_relationSign_0 2 rfl rfl)
theorem dX4_relationSign_4 : decode cX4_relationSign 4 = .ok (.invokevirtual 109, 3) := dk_182 0 109 (dk_at dksX4_relationSign_0 4 rfl rfl)
theorem dX4_relationSign_7 : decode cX4_relationSign 7 = .ok (.ifCond .ne 21, 3) := dk_154 0 21 (dk_at dksX4_relationSign_0 7 rfl rfl)
theorem dX4_relationSign_10 : decode cX4_relationSign 10 = .ok (.aload_n 0, 1) := dk_42 (dk_at dksX4_relationSign_0 10 rfl rfl)
theorem dX4_relationSign_11 : decode cX4_relationSign 11 = .ok (.bipush 61, 2) := dk_16 61 (dk_at dksX4_relationSign_0 11 rfl rfl)
theorem dX4_relationSign_13 : decode cX4_relationSign 13 = .ok (.invokevirtual 109, 3) := dk_182 0 109 (dk_at dksX4_relationSign_0 13 rfl rfl)
theorem dX4_relationSign_16 : decode cX4_relationSign 16 = .ok (.ifCond .ne 12, 3) := dk_154 0 12 (dk_at dksX4_relationSign_0 16 rfl rfl)
theorem dX4_relationSign_19 : decode cX4_relationSign 19 = .ok (.aload_n 0, 1) := dk_42 (dk_at dksX4_relationSign_0 19 rfl rfl)
theorem dX4_relationSign_20 : decode cX4_relationSign 20 = .ok (.bipush 62, 2) := dk_16 62 (dk_at dksX4_relationSign_0 20 rfl rfl)
theorem dX4_relationSign_22 : decode cX4_relationSign 22 = .ok (.invokevirtual 109, 3) := dk_182 0 109 (dk_at dksX4_relationSign_1 0 rfl rfl)
theorem dX4_relationSign_25 : decode cX4_relationSign 25 = .ok (.ifCond .eq 7, 3) := dk_153 0 7 (dk_at dksX4_relationSign_1 3 rfl rfl)
theorem dX4_relationSign_28 : decode cX4_relationSign 28 = .ok (.iconst 1, 1) := dk_4 (dk_at dksX4_relationSign_1 6 rfl rfl)
theorem dX4_relationSign_29 : decode cX4_relationSign 29 = .ok (.goto 4, 3) := dk_167 0 4 (dk_at dksX4_relationSign_1 7 rfl rfl)
theorem dX4_relationSign_32 : decode cX4_relationSign 32 = .ok (.iconst 0, 1) := dk_3 (dk_at dksX4_relationSign_1 10 rfl rfl)
theorem dX4_relationSign_33 : decode cX4_relationSign 33 = .ok (.iconst 1, 1) := dk_4 (dk_at dksX4_relationSign_1 11 rfl rfl)
theorem dX4_relationSign_34 : decode cX4_relationSign 34 = .ok (.invokevirtual 112, 3) := dk_182 0 112 (dk_at dksX4_relationSign_1 12 rfl rfl)
theorem dX4_relationSign_37 : decode cX4_relationSign 37 = .ok (.aload_n 0, 1) := dk_42 (dk_at dksX4_relationSign_1 15 rfl rfl)
theorem dX4_relationSign_38 : decode cX4_relationSign 38 = .ok (.getfield 83, 3) := dk_180 0 83 (dk_at dksX4_relationSign_1 16 rfl rfl)
theorem dX4_relationSign_41 : decode cX4_relationSign 41 = .ok (.istore_n 1, 1) := dk_60 (dk_at dksX4_relationSign_1 19 rfl rfl)
theorem dX4_relationSign_42 : decode cX4_relationSign 42 = .ok (.aload_n 0, 1) := dk_42 (dk_at dksX4_relationSign_1 20 rfl rfl)
theorem dX4_relationSign_43 : decode cX4_relationSign 43 = .ok (.invokevirtual 26, 3) := dk_182 0 26 (dk_at dksX4_relationSign_1 21 rfl rfl)
theorem dX4_relationSign_46 : decode cX4_relationSign 46 = .ok (.iload_n 1, 1) := dk_27 (dk_at dksX4_relationSign_2 0 rfl rfl)
theorem dX4_relationSign_47 : decode cX4_relationSign 47 = .ok (.ireturn, 1) := dk_172 (dk_at dksX4_relationSign_2 1 rfl rfl)
/-- PackingDuel$Scanner.relationSign()I -/
def zb323 (G : zPg) (C : zO) (args : List Value) (Q : zQ) (Y : zY) (σ : zS) : Prop := ∃ (a0 : Nat), args = [.ref a0] ∧ (zJ (fun (v1 : Int32) (s2 : zS) => zJ (fun (p11 : Int32) (s12 : zS) => zJ (fun (s15 : zS) => zgIM s15 (some a0) [7, 26] 5 (fun v24 => zJ (fun (s33 : zS) => Q (some (.int v24)) s33) (fun (j35 : zS → Prop) => zrcM s15 (some a0) [7, 26] (fun a36 c37 => (c37 = 7 → zcl C 311 [.ref a36] Y s15 (zqV j35)) ∧ (c37 = 26 → zcl C 311 [.ref a36] Y s15 (zqV j35)))))) (fun (j17 : zS → Prop) => zrcM s12 (some a0) [7, 26] (fun a18 c19 => (c19 = 7 → zcl C 317 [.ref a18, .int p11, .int (1 : Int32)] Y s12 (zqV j17)) ∧ (c19 = 26 → zcl C 317 [.ref a18, .int p11, .int (1 : Int32)] Y s12 (zqV j17))))) (fun (j13 : Int32 → zS → Prop) => zJ (fun  (s42 : zS) => j13 (1 : Int32) s42) (fun (j43 : zS → Prop) => ((¬ v1 = 0) → j43 s2) ∧ ((v1 = 0) → zJ (fun (v45 : Int32) (s46 : zS) => ((¬ v45 = 0) → j43 s46) ∧ ((v45 = 0) → zJ (fun (v56 : Int32) (s57 : zS) => ((v56 = 0) → j13 (0 : Int32) s57) ∧ ((¬ v56 = 0) → j43 s57)) (fun (j59 : Int32 → zS → Prop) => zrcM s46 (some a0) [7, 26] (fun a60 c61 => (c61 = 7 → zcl C 321 [.ref a60, .int (62 : Int32)] Y s46 (zqI j59)) ∧ (c61 = 26 → zcl C 321 [.ref a60, .int (62 : Int32)] Y s46 (zqI j59)))))) (fun (j48 : Int32 → zS → Prop) => zrcM s2 (some a0) [7, 26] (fun a49 c50 => (c50 = 7 → zcl C 321 [.ref a49, .int (61 : Int32)] Y s2 (zqI j48)) ∧ (c50 = 26 → zcl C 321 [.ref a49, .int (61 : Int32)] Y s2 (zqI j48)))))))) (fun (j4 : Int32 → zS → Prop) => zrcM σ (some a0) [7, 26] (fun a5 c6 => (c6 = 7 → zcl C 321 [.ref a5, .int (60 : Int32)] Y σ (zqI j4)) ∧ (c6 = 26 → zcl C 321 [.ref a5, .int (60 : Int32)] Y σ (zqI j4)))))
set_option maxHeartbeats 4000000 in
theorem wk323 {l : Launch} {g : zG} {d : Nat} {C : zO} (hG : zGk g) (hC : zSound l g d C) {args : List Value} {Q : zQ} {Y : zY} {σ : zS} (hw : zb323 (zpg g) C args Q Y σ) : zMet l g (d + 1) (⟨"PackingDuel$Scanner", "relationSign", "()I"⟩, Cond.code ⟨"PackingDuel$Scanner", "relationSign", "()I"⟩ prog_19_method_12_code 2 (Option.some FieldType.int)) args σ Q Y := by
  obtain ⟨a0, rfl, hw⟩ := hw
  refine zof hG (by decide +kernel) [false] ⟨rfl, trivial⟩ (Nat.le_of_ble_eq_true rfl) (ls := [some (va_rf (some a0)), none]) rfl ?_
  intro X hX hR hTb hd1 hd2 hl hg hnm
  subst hl
  subst hg
  have hd : zDep X d := ⟨hd1, hd2⟩
  refine z_aload_n hX dX4_relationSign_0 rfl (i := 0) rfl ?_
  refine z_aload_n hX dX4_relationSign_1 rfl (i := 0) rfl ?_
  refine z_bipush hX (v := (60 : Int32)) dX4_relationSign_2 (by decide) ?_
  refine zJ_v (P := fun (j : Int32 → zS → Prop) => ∀ (v1 : Int32) (s2 : zS), j v1 s2 → zW X s2 7 [some (va_rf (some a0)), none] [.int v1, va_rf (some a0)]) hw (fun j4 hj4 hw => ?_) (fun v1 s2 hw => ?_)
  · obtain ⟨a5, c6, f7, r8, h9, m10, hw⟩ := hw
    simp only [List.mem_cons, List.not_mem_nil, or_false] at h9
    rcases h9 with rfl | rfl
    · have hw := hw.1 rfl
      refine z_invV hX hd r8 (ci := 7) rfl rfl m10 dX4_relationSign_4 (hC 321 _ zm321 _ _ _ _ hw) q1491 q1492 q1494 zh13 q1496 q142 zn321 rfl (Nat.le_of_ble_eq_true rfl) (st := [va_rf (some a0)]) rfl (zcs8 (Nat.le_of_ble_eq_true rfl)) rfl (zkI (fun v1 s2 hw => ?_)) (zout hX hR hTb)
      exact hj4 _ _ hw
    · have hw := hw.2 rfl
      refine z_invV hX hd r8 (ci := 26) rfl rfl m10 dX4_relationSign_4 (hC 321 _ zm321 _ _ _ _ hw) q1491 q1492 q1495 zh13 q1496 q142 zn321 rfl (Nat.le_of_ble_eq_true rfl) (st := [va_rf (some a0)]) rfl (zcs8 (Nat.le_of_ble_eq_true rfl)) rfl (zkI (fun v1 s2 hw => ?_)) (zout hX hR hTb)
      exact hj4 _ _ hw
  refine zJ_w (P := fun (j : Int32 → zS → Prop) => ∀ (p11 : Int32) (s12 : zS), j p11 s12 → zW X s12 33 [some (va_rf (some a0)), none] [.int p11, va_rf (some a0)]) hw (fun p11 s12 hw => ?_) (fun j13 hj13 hw => ?_)
  · refine z_iconst hX (v := (1 : Int32)) dX4_relationSign_33 (by decide) ?_
    refine zJ_v (P := fun (j : zS → Prop) => ∀ (s15 : zS), j s15 → zW X s15 37 [some (va_rf (some a0)), none] []) hw (fun j17 hj17 hw => ?_) (fun s15 hw => ?_)
    · obtain ⟨a18, c19, f20, r21, h22, m23, hw⟩ := hw
      simp only [List.mem_cons, List.not_mem_nil, or_false] at h22
      rcases h22 with rfl | rfl
      · have hw := hw.1 rfl
        refine z_invV hX hd r21 (ci := 7) rfl rfl m23 dX4_relationSign_34 (hC 317 _ zm317 _ _ _ _ hw) q1483 q1441 q3177 zh13 q1442 q142 zn317 rfl (Nat.le_of_ble_eq_true rfl) (st := []) rfl (zcs8 (Nat.le_of_ble_eq_true rfl)) rfl (zkV (fun s15 hw => ?_)) (zout hX hR hTb)
        exact hj17 _ hw
      · have hw := hw.2 rfl
        refine z_invV hX hd r21 (ci := 26) rfl rfl m23 dX4_relationSign_34 (hC 317 _ zm317 _ _ _ _ hw) q1483 q1441 q3178 zh13 q1442 q142 zn317 rfl (Nat.le_of_ble_eq_true rfl) (st := []) rfl (zcs8 (Nat.le_of_ble_eq_true rfl)) rfl (zkV (fun s15 hw => ?_)) (zout hX hR hTb)
        exact hj17 _ hw
    refine z_aload_n hX dX4_relationSign_37 rfl (i := 0) rfl ?_
    obtain ⟨a25, c30, f26, v24, r27, h31, m28, e29, hw⟩ := hw
    refine z_getM hX (cs := [7, 26]) (k := 5) (t := ("PackingDuel$Scanner", "sign", "I", false)) dX4_relationSign_38 (zfa1 ⟨_, _, _, _, zc7, (Nat.le_of_ble_eq_true rfl), rfl⟩ (zfa1 ⟨_, _, _, _, zc26, (Nat.le_of_ble_eq_true rfl), rfl⟩ (zfa0))) (zlk hX q1382) r27 h31 m28 e29 ?_
    refine z_istore_n hX dX4_relationSign_41 rfl (i := 1) (Nat.le_of_ble_eq_true rfl) (zc_rf _) (ls2 := [some (va_rf (some a0)), some (.int v24)]) rfl ?_
    refine z_aload_n hX dX4_relationSign_42 rfl (i := 0) rfl ?_
    refine zJ_v (P := fun (j : zS → Prop) => ∀ (s33 : zS), j s33 → zW X s33 46 [some (va_rf (some a0)), some (.int v24)] []) hw (fun j35 hj35 hw => ?_) (fun s33 hw => ?_)
    · obtain ⟨a36, c37, f38, r39, h40, m41, hw⟩ := hw
      simp only [List.mem_cons, List.not_mem_nil, or_false] at h40
      rcases h40 with rfl | rfl
      · have hw := hw.1 rfl
        refine z_invV hX hd r39 (ci := 7) rfl rfl m41 dX4_relationSign_43 (hC 311 _ zm311 _ _ _ _ hw) q1125 q1126 q1128 zh13 q1130 q142 zn311 rfl (Nat.le_of_ble_eq_true rfl) (st := []) rfl (zcs8 (Nat.le_of_ble_eq_true rfl)) rfl (zkV (fun s33 hw => ?_)) (zout hX hR hTb)
        exact hj35 _ hw
      · have hw := hw.2 rfl
        refine z_invV hX hd r39 (ci := 26) rfl rfl m41 dX4_relationSign_43 (hC 311 _ zm311 _ _ _ _ hw) q1125 q1126 q1129 zh13 q1130 q142 zn311 rfl (Nat.le_of_ble_eq_true rfl) (st := []) rfl (zcs8 (Nat.le_of_ble_eq_true rfl)) rfl (zkV (fun s33 hw => ?_)) (zout hX hR hTb)
        exact hj35 _ hw
    refine z_iload_n hX dX4_relationSign_46 rfl (i := 1) rfl ?_
    exact z_ireturn hX hR dX4_relationSign_47 rfl hw
  · refine zJ_w (P := fun (j : zS → Prop) => ∀  (s42 : zS), j  s42 → zW X s42 28 [some (va_rf (some a0)), none] [va_rf (some a0)]) hw (fun  s42 hw => ?_) (fun j43 hj43 hw => ?_)
    · refine z_iconst hX (v := (1 : Int32)) dX4_relationSign_28 (by decide) ?_
      refine z_goto hX dX4_relationSign_29 (tgt := 33) rfl ?_
      exact hj13 _ _ hw
    · refine z_if_ne hX dX4_relationSign_7 (tgt := 28) rfl (fun c44 => ?_) (fun c44 => ?_)
      · have hw := hw.1 c44
        exact hj43  _ hw
      · have hw := hw.2 c44
        refine z_aload_n hX dX4_relationSign_10 rfl (i := 0) rfl ?_
        refine z_bipush hX (v := (61 : Int32)) dX4_relationSign_11 (by decide) ?_
        refine zJ_v (P := fun (j : Int32 → zS → Prop) => ∀ (v45 : Int32) (s46 : zS), j v45 s46 → zW X s46 16 [some (va_rf (some a0)), none] [.int v45, va_rf (some a0)]) hw (fun j48 hj48 hw => ?_) (fun v45 s46 hw => ?_)
        · obtain ⟨a49, c50, f51, r52, h53, m54, hw⟩ := hw
          simp only [List.mem_cons, List.not_mem_nil, or_false] at h53
          rcases h53 with rfl | rfl
          · have hw := hw.1 rfl
            refine z_invV hX hd r52 (ci := 7) rfl rfl m54 dX4_relationSign_13 (hC 321 _ zm321 _ _ _ _ hw) q1491 q1492 q1494 zh13 q1496 q142 zn321 rfl (Nat.le_of_ble_eq_true rfl) (st := [va_rf (some a0)]) rfl (zcs8 (Nat.le_of_ble_eq_true rfl)) rfl (zkI (fun v45 s46 hw => ?_)) (zout hX hR hTb)
            exact hj48 _ _ hw
          · have hw := hw.2 rfl
            refine z_invV hX hd r52 (ci := 26) rfl rfl m54 dX4_relationSign_13 (hC 321 _ zm321 _ _ _ _ hw) q1491 q1492 q1495 zh13 q1496 q142 zn321 rfl (Nat.le_of_ble_eq_true rfl) (st := [va_rf (some a0)]) rfl (zcs8 (Nat.le_of_ble_eq_true rfl)) rfl (zkI (fun v45 s46 hw => ?_)) (zout hX hR hTb)
            exact hj48 _ _ hw
        refine z_if_ne hX dX4_relationSign_16 (tgt := 28) rfl (fun c55 => ?_) (fun c55 => ?_)
        · have hw := hw.1 c55
          exact hj43  _ hw
        · have hw := hw.2 c55
          refine z_aload_n hX dX4_relationSign_19 rfl (i := 0) rfl ?_
          refine z_bipush hX (v := (62 : Int32)) dX4_relationSign_20 (by decide) ?_
          refine zJ_v (P := fun (j : Int32 → zS → Prop) => ∀ (v56 : Int32) (s57 : zS), j v56 s57 → zW X s57 25 [some (va_rf (some a0)), none] [.int v56, va_rf (some a0)]) hw (fun j59 hj59 hw => ?_) (fun v56 s57 hw => ?_)
          · obtain ⟨a60, c61, f62, r63, h64, m65, hw⟩ := hw
            simp only [List.mem_cons, List.not_mem_nil, or_false] at h64
            rcases h64 with rfl | rfl
            · have hw := hw.1 rfl
              refine z_invV hX hd r63 (ci := 7) rfl rfl m65 dX4_relationSign_22 (hC 321 _ zm321 _ _ _ _ hw) q1491 q1492 q1494 zh13 q1496 q142 zn321 rfl (Nat.le_of_ble_eq_true rfl) (st := [va_rf (some a0)]) rfl (zcs8 (Nat.le_of_ble_eq_true rfl)) rfl (zkI (fun v56 s57 hw => ?_)) (zout hX hR hTb)
              exact hj59 _ _ hw
            · have hw := hw.2 rfl
              refine z_invV hX hd r63 (ci := 26) rfl rfl m65 dX4_relationSign_22 (hC 321 _ zm321 _ _ _ _ hw) q1491 q1492 q1495 zh13 q1496 q142 zn321 rfl (Nat.le_of_ble_eq_true rfl) (st := [va_rf (some a0)]) rfl (zcs8 (Nat.le_of_ble_eq_true rfl)) rfl (zkI (fun v56 s57 hw => ?_)) (zout hX hR hTb)
              exact hj59 _ _ hw
          refine z_if_eq hX dX4_relationSign_25 (tgt := 32) rfl (fun c66 => ?_) (fun c66 => ?_)
          · have hw := hw.1 c66
            refine z_iconst hX (v := (0 : Int32)) dX4_relationSign_32 (by decide) ?_
            exact hj13 _ _ hw
          · have hw := hw.2 c66
            exact hj43  _ hw
abbrev cX5_init : ByteArray := prog_5_method_1_code
def yX5_init : MethodName := ⟨RX5, "<init>", "(LPackingDuel;I)V"⟩
def dkwX5_init_0 : List UInt8 := [42, 43, 181, 0, 3, 42, 43, 28, 183, 0, 9, 42, 187, 0, 15, 89, 183, 0, 17, 181, 0, 20, 177]
abbrev dktX5_init_0 : List UInt8 := dkwX5_init_0 ++ []
theorem dksX5_init_0 : cX5_init.data.toList.drop 0 = dktX5_init_0 := by decide +kernel
theorem dX5_init_0 : decode cX5_init 0 = .ok (.aload_n 0, 1) := dk_42 (dk_at dksX5_init_0 0 rfl rfl)
theorem dX5_init_1 : decode cX5_init 1 = .ok (.aload_n 1, 1) := dk_43 (dk_at dksX5_init_0 1 rfl rfl)
theorem dX5_init_2 : decode cX5_init 2 = .ok (.putfield 3, 3) := dk_181 0 3 (dk_at dksX5_init_0 2 rfl rfl)
theorem dX5_init_5 : decode cX5_init 5 = .ok (.aload_n 0, 1) := dk_42 (dk_at dksX5_init_0 5 rfl rfl)
theorem dX5_init_6 : decode cX5_init 6 = .ok (.aload_n 1, 1) := dk_43 (dk_at dksX5_init_0 6 rfl rfl)
theorem dX5_init_7 : decode cX5_init 7 = .ok (.iload_n 2, 1) := dk_28 (dk_at dksX5_init_0 7 rfl rfl)
theorem dX5_init_8 : decode cX5_init 8 = .ok (.invokespecial 9, 3) := dk_183 0 9 (dk_at dksX5_init_0 8 rfl rfl)
theorem dX5_init_11 : decode cX5_init 11 = .ok (.aload_n 0, 1) := dk_42 (dk_at dksX5_init_0 11 rfl rfl)
theorem dX5_init_12 : decode cX5_init 12 = .ok (.new 15, 3) := dk_187 0 15 (dk_at dksX5_init_0 12 rfl rfl)
theorem dX5_init_15 : decode cX5_init 15 = .ok (.dup, 1) := dk_89 (dk_at dksX5_init_0 15 rfl rfl)
theorem dX5_init_16 : decode cX5_init 16 = .ok (.invokespecial 17, 3) := dk_183 0 17 (dk_at dksX5_init_0 16 rfl rfl)
theorem dX5_init_19 : decode cX5_init 19 = .ok (.putfield 20, 3) := dk_181 0 20 (dk_at dksX5_init_0 19 rfl rfl)
theorem dX5_init_22 : decode cX5_init 22 = .ok (.return_, 1) := dk_177 (dk_at dksX5_init_0 22 rfl rfl)
/-- PackingDuel$DuelParser.<init>(LPackingDuel;I)V -/
def zb324 (G : zPg) (C : zO) (args : List Value) (Q : zQ) (Y : zY) (σ : zS) : Prop := ∃ (a0 : Nat) (x1 : Option Nat) (x2 : Int32), args = [.ref a0, va_rf x1, .int x2] ∧ (zput σ G.1 (some a0) 7 9 (va_rf x1) (fun s1 => (∃ a12, (some a0) = some a12 ∧ zcl C 310 [.ref a12, va_rf x1, .int x2] Y s1 (zqV (fun s10 => znew s10 1 [va_rf none, va_rf none, va_rf none, .int 0, .int 0, .int 0, .int 0, .int 0, .int 0, .int 0, .int 0, va_rf none, va_rf none, va_rf none, va_rf none] 15 (fun s14 => (∃ a20, (some s10.2.1) = some a20 ∧ zcl C 81 [.ref a20] Y s14 (zqV (fun s18 => zput s18 G.1 (some a0) 7 8 (va_rf (some s10.2.1)) (fun s22 => Q none s22))))))))))
set_option maxHeartbeats 4000000 in
theorem wk324 {l : Launch} {g : zG} {d : Nat} {C : zO} (hG : zGk g) (hC : zSound l g d C) {args : List Value} {Q : zQ} {Y : zY} {σ : zS} (hw : zb324 (zpg g) C args Q Y σ) : zMet l g (d + 1) (⟨"PackingDuel$DuelParser", "<init>", "(LPackingDuel;I)V"⟩, Cond.code ⟨"PackingDuel$DuelParser", "<init>", "(LPackingDuel;I)V"⟩ prog_5_method_1_code 3 (Option.none : Option FieldType)) args σ Q Y := by
  obtain ⟨a0, x1, x2, rfl, hw⟩ := hw
  refine zof hG (by decide +kernel) [false, false, false] ⟨rfl, (zc_rf _), rfl, trivial⟩ (Nat.le_of_ble_eq_true rfl) (ls := [some (va_rf (some a0)), some (va_rf x1), some (.int x2)]) rfl ?_
  intro X hX hR hTb hd1 hd2 hl hg hnm
  subst hl
  subst hg
  have hd : zDep X d := ⟨hd1, hd2⟩
  refine z_aload_n hX dX5_init_0 rfl (i := 0) rfl ?_
  refine z_aload_n hX dX5_init_1 rfl (i := 1) rfl ?_
  obtain ⟨a3, f4, r5, g6, m7, l8, hw⟩ := hw
  refine z_putF hX zc7 (k := 9) dX5_init_2 (Nat.le_of_ble_eq_true rfl) q1376 rfl hnm rfl (zn_o _ _) (zf_o _ _) r5 g6 m7 l8 (z_nm (fun s1 e2 => ?_))
  have hw := hw s1 e2
  refine z_aload_n hX dX5_init_5 rfl (i := 0) rfl ?_
  refine z_aload_n hX dX5_init_6 rfl (i := 1) rfl ?_
  refine z_iload_n hX dX5_init_7 rfl (i := 2) rfl ?_
  obtain ⟨a12, r13, hw⟩ := hw
  refine z_invI hX hd r13 dX5_init_8 (hC 310 _ zm310 _ _ _ _ hw) q1090 q1091 rfl zh13 q1092 q142 zn310 rfl (Nat.le_of_ble_eq_true rfl) (st := []) rfl (zcs8 (Nat.le_of_ble_eq_true rfl)) rfl (zkV (fun s10 hw => ?_)) (zout hX hR hTb)
  refine z_aload_n hX dX5_init_11 rfl (i := 0) rfl ?_
  refine z_new hX zc1 dX5_init_12 q1373 q194 q131 (fs := [va_rf none, va_rf none, va_rf none, .int 0, .int 0, .int 0, .int 0, .int 0, .int 0, .int 0, .int 0, va_rf none, va_rf none, va_rf none, va_rf none]) (fun j hj => by have hj : j < 15 := hj; exact zdf1 j hj) hw.1 hw.2.1 (fun z15 => z_nm (fun s14 e16 => ?_))
  have hw := hw.2.2 z15 s14 e16
  refine z_dup hX dX5_init_15 (zc_rf _) ?_
  obtain ⟨a20, r21, hw⟩ := hw
  refine z_invIN hX hd r21 dX5_init_16 (hC 81 _ zm81 _ _ _ _ hw) q1374 q196 rfl zh2 q197 q131 zn81 rfl (Nat.le_of_ble_eq_true rfl) (st := [va_rf (some s10.2.1), va_rf (some a0)]) rfl (zcs8 (Nat.le_of_ble_eq_true rfl)) rfl (zkV (fun s18 hw => ?_)) (zout hX hR hTb)
  obtain ⟨a24, f25, r26, g27, m28, l29, hw⟩ := hw
  refine z_putF hX zc7 (k := 8) dX5_init_19 (Nat.le_of_ble_eq_true rfl) q1375 rfl hnm rfl (zn_o _ _) (zf_o _ _) r26 g27 m28 l29 (z_nm (fun s22 e23 => ?_))
  have hw := hw s22 e23
  exact z_return hX hR dX5_init_22 hw
abbrev cX5_parse : ByteArray := prog_5_method_2_code
def yX5_parse : MethodName := ⟨RX5, "parse", "()LPackingDuel$State;"⟩
def dkwX5_parse_6 : List UInt8 := [180, 0, 20, 176]
abbrev dktX5_parse_6 : List UInt8 := dkwX5_parse_6 ++ []
def dkwX5_parse_5 : List UInt8 := [167, 255, 219, 42, 42, 180, 0, 77, 178, 0, 81, 166, 0, 7, 4, 167, 0, 4, 3, 4, 182, 0, 30, 42]
abbrev dktX5_parse_5 : List UInt8 := dkwX5_parse_5 ++ dktX5_parse_6
def dkwX5_parse_4 : List UInt8 := [182, 0, 55, 18, 71, 182, 0, 61, 153, 0, 19, 42, 42, 182, 0, 55, 18, 69, 182, 0, 61, 182, 0, 73]
abbrev dktX5_parse_4 : List UInt8 := dkwX5_parse_4 ++ dktX5_parse_5
def dkwX5_parse_3 : List UInt8 := [153, 0, 10, 42, 182, 0, 67, 167, 255, 240, 42, 182, 0, 55, 18, 69, 182, 0, 61, 154, 0, 15, 42]
abbrev dktX5_parse_3 : List UInt8 := dkwX5_parse_3 ++ dktX5_parse_4
def dkwX5_parse_2 : List UInt8 := [18, 45, 182, 0, 26, 181, 0, 47, 42, 16, 59, 182, 0, 51, 42, 182, 0, 55, 18, 59, 182, 0, 61]
abbrev dktX5_parse_2 : List UInt8 := dkwX5_parse_2 ++ dktX5_parse_3
def dkwX5_parse_1 : List UInt8 := [181, 0, 38, 42, 180, 0, 20, 42, 3, 17, 0, 200, 182, 0, 34, 181, 0, 42, 42, 180, 0, 20, 42]
abbrev dktX5_parse_1 : List UInt8 := dkwX5_parse_1 ++ dktX5_parse_2
def dkwX5_parse_0 : List UInt8 := [42, 42, 18, 24, 182, 0, 26, 4, 182, 0, 30, 42, 180, 0, 20, 42, 3, 17, 0, 200, 182, 0, 34]
abbrev dktX5_parse_0 : List UInt8 := dkwX5_parse_0 ++ dktX5_parse_1
theorem dksX5_parse_0 : cX5_parse.data.toList.drop 0 = dktX5_parse_0 := by decide +kernel
theorem dksX5_parse_1 : cX5_parse.data.toList.drop 23 = dktX5_parse_1 := dk_seg dksX5_parse_0 23 rfl rfl
theorem dksX5_parse_2 : cX5_parse.data.toList.drop 46 = dktX5_parse_2 := dk_seg dksX5_parse_1 23 rfl rfl
theorem dksX5_parse_3 : cX5_parse.data.toList.drop 69 = dktX5_parse_3 := dk_seg dksX5_parse_2 23 rfl rfl
theorem dksX5_parse_4 : cX5_parse.data.toList.drop 92 = dktX5_parse_4 := dk_seg dksX5_parse_3 23 rfl rfl
theorem dksX5_parse_5 : cX5_parse.data.toList.drop 116 = dktX5_parse_5 := dk_seg dksX5_parse_4 24 rfl rfl
theorem dksX5_parse_6 : cX5_parse.data.toList.drop 140 = dktX5_parse_6 := dk_seg dksX5_parse_5 24 rfl rfl
theorem dX5_parse_0 : decode cX5_parse 0 = .ok (.aload_n 0, 1) := dk_42 (dk_at dksX5_parse_0 0 rfl rfl)
theorem dX5_parse_1 : decode cX5_parse 1 = .ok (.aload_n 0, 1) := dk_42 (dk_at dksX5_parse_0 1 rfl rfl)
theorem dX5_parse_2 : decode cX5_parse 2 = .ok (.ldc 24, 2) := dk_18 24 (dk_at dksX5_parse_0 2 rfl rfl)
theorem dX5_parse_4 : decode cX5_parse 4 = .ok (.invokevirtual 26, 3) := dk_182 0 26 (dk_at dksX5_parse_0 4 rfl rfl)
theorem dX5_parse_7 : decode cX5_parse 7 = .ok (.iconst 1, 1) := dk_4 (dk_at dksX5_parse_0 7 rfl rfl)
theorem dX5_parse_8 : decode cX5_parse 8 = .ok (.invokevirtual 30, 3) := dk_182 0 30 (dk_at dksX5_parse_0 8 rfl rfl)
theorem dX5_parse_11 : decode cX5_parse 11 = .ok (.aload_n 0, 1) := dk_42 (dk_at dksX5_parse_0 11 rfl rfl)
theorem dX5_parse_12 : decode cX5_parse 12 = .ok (.getfield 20, 3) := dk_180 0 20 (dk_at dksX5_parse_0 12 rfl rfl)
theorem dX5_parse_15 : decode cX5_parse 15 = .ok (.aload_n 0, 1) := dk_42 (dk_at dksX5_parse_0 15 rfl rfl)
theorem dX5_parse_16 : decode cX5_parse 16 = .ok (.iconst 0, 1) := dk_3 (dk_at dksX5_parse_0 16 rfl rfl)
theorem dX5_parse_17 : decode cX5_parse 17 = .ok (.sipush 200, 3) := dk_17 0 200 (dk_at dksX5_parse_0 17 rfl rfl)
theorem dX5_parse_20 : decode cX5_parse 20 = .ok (.invokevirtual 34, 3) := dk_182 0 34 (dk_at dksX5_parse_0 20 rfl rfl)
theorem dX5_parse_23 : decode cX5_parse 23 = .ok (.putfield 38, 3) := dk_181 0 38 (dk_at dksX5_parse_1 0 rfl rfl)
theorem dX5_parse_26 : decode cX5_parse 26 = .ok (.aload_n 0, 1) := dk_42 (dk_at dksX5_parse_1 3 rfl rfl)
theorem dX5_parse_27 : decode cX5_parse 27 = .ok (.getfield 20, 3) := dk_180 0 20 (dk_at dksX5_parse_1 4 rfl rfl)
theorem dX5_parse_30 : decode cX5_parse 30 = .ok (.aload_n 0, 1) := dk_42 (dk_at dksX5_parse_1 7 rfl rfl)
theorem dX5_parse_31 : decode cX5_parse 31 = .ok (.iconst 0, 1) := dk_3 (dk_at dksX5_parse_1 8 rfl rfl)
theorem dX5_parse_32 : decode cX5_parse 32 = .ok (.sipush 200, 3) := dk_17 0 200 (dk_at dksX5_parse_1 9 rfl rfl)
theorem dX5_parse_35 : decode cX5_parse 35 = .ok (.invokevirtual 34, 3) := dk_182 0 34 (dk_at dksX5_parse_1 12 rfl rfl)
theorem dX5_parse_38 : decode cX5_parse 38 = .ok (.putfield 42, 3) := dk_181 0 42 (dk_at dksX5_parse_1 15 rfl rfl)
theorem dX5_parse_41 : decode cX5_parse 41 = .ok (.aload_n 0, 1) := dk_42 (dk_at dksX5_parse_1 18 rfl rfl)
theorem dX5_parse_42 : decode cX5_parse 42 = .ok (.getfield 20, 3) := dk_180 0 20 (dk_at dksX5_parse_1 19 rfl rfl)
theorem dX5_parse_45 : decode cX5_parse 45 = .ok (.aload_n 0, 1) := dk_42 (dk_at dksX5_parse_1 22 rfl rfl)
theorem dX5_parse_46 : decode cX5_parse 46 = .ok (.ldc 45, 2) := dk_18 45 (dk_at dksX5_parse_2 0 rfl rfl)
theorem dX5_parse_48 : decode cX5_parse 48 = .ok (.invokevirtual 26, 3) := dk_182 0 26 (dk_at dksX5_parse_2 2 rfl rfl)
theorem dX5_parse_51 : decode cX5_parse 51 = .ok (.putfield 47, 3) := dk_181 0 47 (dk_at dksX5_parse_2 5 rfl rfl)
theorem dX5_parse_54 : decode cX5_parse 54 = .ok (.aload_n 0, 1) := dk_42 (dk_at dksX5_parse_2 8 rfl rfl)
theorem dX5_parse_55 : decode cX5_parse 55 = .ok (.bipush 59, 2) := dk_16 59 (dk_at dksX5_parse_2 9 rfl rfl)
theorem dX5_parse_57 : decode cX5_parse 57 = .ok (.invokevirtual 51, 3) := dk_182 0 51 (dk_at dksX5_parse_2 11 rfl rfl)
theorem dX5_parse_60 : decode cX5_parse 60 = .ok (.aload_n 0, 1) := dk_42 (dk_at dksX5_parse_2 14 rfl rfl)
theorem dX5_parse_61 : decode cX5_parse 61 = .ok (.invokevirtual 55, 3) := dk_182 0 55 (dk_at dksX5_parse_2 15 rfl rfl)
theorem dX5_parse_64 : decode cX5_parse 64 = .ok (.ldc 59, 2) := dk_18 59 (dk_at dksX5_parse_2 18 rfl rfl)
theorem dX5_parse_66 : decode cX5_parse 66 = .ok (.invokevirtual 61, 3) := dk_182 0 61 (dk_at dksX5_parse_2 20 rfl rfl)
theorem dX5_parse_69 : decode cX5_parse 69 = .ok (.ifCond .eq 10, 3) := dk_153 0 10 (dk_at dksX5_parse_3 0 rfl rfl)
theorem dX5_parse_72 : decode cX5_parse 72 = .ok (.aload_n 0, 1) := dk_42 (dk_at dksX5_parse_3 3 rfl rfl)
theorem dX5_parse_73 : decode cX5_parse 73 = .ok (.invokevirtual 67, 3) := dk_182 0 67 (dk_at dksX5_parse_3 4 rfl rfl)
theorem dX5_parse_76 : decode cX5_parse 76 = .ok (.goto (-16), 3) := dk_167 255 240 (dk_at dksX5_parse_3 7 rfl rfl)
theorem dX5_parse_79 : decode cX5_parse 79 = .ok (.aload_n 0, 1) := dk_42 (dk_at dksX5_parse_3 10 rfl rfl)
theorem dX5_parse_80 : decode cX5_parse 80 = .ok (.invokevirtual 55, 3) := dk_182 0 55 (dk_at dksX5_parse_3 11 rfl rfl)
theorem dX5_parse_83 : decode cX5_parse 83 = .ok (.ldc 69, 2) := dk_18 69 (dk_at dksX5_parse_3 14 rfl rfl)
theorem dX5_parse_85 : decode cX5_parse 85 = .ok (.invokevirtual 61, 3) := dk_182 0 61 (dk_at dksX5_parse_3 16 rfl rfl)
theorem dX5_parse_88 : decode cX5_parse 88 = .ok (.ifCond .ne 15, 3) := dk_154 0 15 (dk_at dksX5_parse_3 19 rfl rfl)
theorem dX5_parse_91 : decode cX5_parse 91 = .ok (.aload_n 0, 1) := dk_42 (dk_at dksX5_parse_3 22 rfl rfl)
theorem dX5_parse_92 : decode cX5_parse 92 = .ok (.invokevirtual 55, 3) := dk_182 0 55 (dk_at dksX5_parse_4 0 rfl rfl)
theorem dX5_parse_95 : decode cX5_parse 95 = .ok (.ldc 71, 2) := dk_18 71 (dk_at dksX5_parse_4 3 rfl rfl)
theorem dX5_parse_97 : decode cX5_parse 97 = .ok (.invokevirtual 61, 3) := dk_182 0 61 (dk_at dksX5_parse_4 5 rfl rfl)
theorem dX5_parse_100 : decode cX5_parse 100 = .ok (.ifCond .eq 19, 3) := dk_153 0 19 (dk_at dksX5_parse_4 8 rfl rfl)
theorem dX5_parse_103 : decode cX5_parse 103 = .ok (.aload_n 0, 1) := dk_42 (dk_at dksX5_parse_4 11 rfl rfl)
theorem dX5_parse_104 : decode cX5_parse 104 = .ok (.aload_n 0, 1) := dk_42 (dk_at dksX5_parse_4 12 rfl rfl)
theorem dX5_parse_105 : decode cX5_parse 105 = .ok (.invokevirtual 55, 3) := dk_182 0 55 (dk_at dksX5_parse_4 13 rfl rfl)
theorem dX5_parse_108 : decode cX5_parse 108 = .ok (.ldc 69, 2) := dk_18 69 (dk_at dksX5_parse_4 16 rfl rfl)
theorem dX5_parse_110 : decode cX5_parse 110 = .ok (.invokevirtual 61, 3) := dk_182 0 61 (dk_at dksX5_parse_4 18 rfl rfl)
theorem dX5_parse_113 : decode cX5_parse 113 = .ok (.invokevirtual 73, 3) := dk_182 0 73 (dk_at dksX5_parse_4 21 rfl rfl)
theorem dX5_parse_116 : decode cX5_parse 116 = .ok (.goto (-37), 3) := dk_167 255 219 (dk_at dksX5_parse_5 0 rfl rfl)
theorem dX5_parse_119 : decode cX5_parse 119 = .ok (.aload_n 0, 1) := dk_42 (dk_at dksX5_parse_5 3 rfl rfl)
theorem dX5_parse_120 : decode cX5_parse 120 = .ok (.aload_n 0, 1) := dk_42 (dk_at dksX5_parse_5 4 rfl rfl)
theorem dX5_parse_121 : decode cX5_parse 121 = .ok (.getfield 77, 3) := dk_180 0 77 (dk_at dksX5_parse_5 5 rfl rfl)
theorem dX5_parse_124 : decode cX5_parse 124 = .ok (.getstatic 81, 3) := dk_178 0 81 (dk_at dksX5_parse_5 8 rfl rfl)
theorem dX5_parse_127 : decode cX5_parse 127 = .ok (.if_acmp .ne 7, 3) := dk_166 0 7 (dk_at dksX5_parse_5 11 rfl rfl)
theorem dX5_parse_130 : decode cX5_parse 130 = .ok (.iconst 1, 1) := dk_4 (dk_at dksX5_parse_5 14 rfl rfl)
theorem dX5_parse_131 : decode cX5_parse 131 = .ok (.goto 4, 3) := dk_167 0 4 (dk_at dksX5_parse_5 15 rfl rfl)
theorem dX5_parse_134 : decode cX5_parse 134 = .ok (.iconst 0, 1) := dk_3 (dk_at dksX5_parse_5 18 rfl rfl)
theorem dX5_parse_135 : decode cX5_parse 135 = .ok (.iconst 1, 1) := dk_4 (dk_at dksX5_parse_5 19 rfl rfl)
theorem dX5_parse_136 : decode cX5_parse 136 = .ok (.invokevirtual 30, 3) := dk_182 0 30 (dk_at dksX5_parse_5 20 rfl rfl)
theorem dX5_parse_139 : decode cX5_parse 139 = .ok (.aload_n 0, 1) := dk_42 (dk_at dksX5_parse_5 23 rfl rfl)
theorem dX5_parse_140 : decode cX5_parse 140 = .ok (.getfield 20, 3) := dk_180 0 20 (dk_at dksX5_parse_6 0 rfl rfl)
theorem dX5_parse_143 : decode cX5_parse 143 = .ok (.areturn, 1) := dk_176 (dk_at dksX5_parse_6 3 rfl rfl)
/-- PackingDuel$DuelParser.parse()LPackingDuel$State; -/
def zb325 (G : zPg) (C : zO) (args : List Value) (Q : zQ) (Y : zY) (σ : zS) : Prop := ∃ (a0 : Nat), args = [.ref a0] ∧ (zrc σ (some a0) 7 (fun a4 => zcl C 315 [.ref a4, va_rf (some (G.2 30))] Y σ (zqI (fun v1 s2 => zrc s2 (some a0) 7 (fun a11 => zcl C 317 [.ref a11, .int v1, .int (1 : Int32)] Y s2 (zqV (fun s9 => zgR s9 (some a0) 7 8 (fun v15 => zrc s9 (some a0) 7 (fun a24 => zcl C 318 [.ref a24, .int (0 : Int32), .int (200 : Int32)] Y s9 (zqI (fun v21 s22 => zput s22 G.1 v15 1 3 (.int v21) (fun s28 => zgR s28 (some a0) 7 8 (fun v36 => zrc s28 (some a0) 7 (fun a45 => zcl C 318 [.ref a45, .int (0 : Int32), .int (200 : Int32)] Y s28 (zqI (fun v42 s43 => zput s43 G.1 v36 1 4 (.int v42) (fun s49 => zgR s49 (some a0) 7 8 (fun v57 => zrc s49 (some a0) 7 (fun a66 => zcl C 315 [.ref a66, va_rf (some (G.2 31))] Y s49 (zqI (fun v63 s64 => (zbool v63 ∧ zput s64 G.1 v57 1 5 (.int v63) (fun s70 => zrc s70 (some a0) 7 (fun a82 => zcl C 320 [.ref a82, .int (59 : Int32)] Y s70 (zqV (fun s80 => ∃ n, zIt (fun  _ => False) (fun rec87  (s86 : zS) => zrc s86 (some a0) 7 (fun a91 => zcl C 316 [.ref a91] Y s86 (zqR (fun v88 s89 => zrc s89 v88 9 (fun a98 => zcl C 365 [.ref a98, va_rf (some (G.2 32))] Y s89 (zqI (fun v95 s96 => ((v95 = 0) → ∃ n, zIt (fun  _ => False) (fun rec104  (s103 : zS) => zrc s103 (some a0) 7 (fun a108 => zcl C 316 [.ref a108] Y s103 (zqR (fun v105 s106 => zrc s106 v105 9 (fun a115 => zcl C 365 [.ref a115, va_rf (some (G.2 33))] Y s106 (zqI (fun v112 s113 => zJ (fun  (s119 : zS) => zrc s119 (some a0) 7 (fun a124 => zcl C 316 [.ref a124] Y s119 (zqR (fun v121 s122 => zrc s122 v121 9 (fun a131 => zcl C 365 [.ref a131, va_rf (some (G.2 33))] Y s122 (zqI (fun v128 s129 => zrc s129 (some a0) 7 (fun a138 => zcl C 327 [.ref a138, .int v128] Y s129 (zqV (fun s136 => rec104 s136)))))))))) (fun (j120 : zS → Prop) => ((¬ v112 = 0) → j120 s113) ∧ ((v112 = 0) → zrc s113 (some a0) 7 (fun a146 => zcl C 316 [.ref a146] Y s113 (zqR (fun v143 s144 => zrc s144 v143 9 (fun a153 => zcl C 365 [.ref a153, va_rf (some (G.2 34))] Y s144 (zqI (fun v150 s151 => ((v150 = 0) → zgR s151 (some a0) 7 6 (fun v158 => zJ (fun (p164 : Int32) (s165 : zS) => zrc s165 (some a0) 7 (fun a170 => zcl C 317 [.ref a170, .int p164, .int (1 : Int32)] Y s165 (zqV (fun s168 => zgR s168 (some a0) 7 8 (fun v174 => Q (some (va_rf v174)) s168))))) (fun (j166 : Int32 → zS → Prop) => ((¬ v158 = (some (G.2 53))) → j166 (0 : Int32) s151) ∧ ((v158 = (some (G.2 53))) → j166 (1 : Int32) s151)))) ∧ ((¬ v150 = 0) → j120 s151)))))))))))))))) n  s96) ∧ ((¬ v95 = 0) → zrc s96 (some a0) 7 (fun a185 => zcl C 326 [.ref a185] Y s96 (zqV (fun s183 => rec87 s183))))))))))) n  s80))))))))))))))))))))))))))
set_option maxHeartbeats 4000000 in
theorem wk325 {l : Launch} {g : zG} {d : Nat} {C : zO} (hG : zGk g) (hC : zSound l g d C) {args : List Value} {Q : zQ} {Y : zY} {σ : zS} (hw : zb325 (zpg g) C args Q Y σ) : zMet l g (d + 1) (⟨"PackingDuel$DuelParser", "parse", "()LPackingDuel$State;"⟩, Cond.code ⟨"PackingDuel$DuelParser", "parse", "()LPackingDuel$State;"⟩ prog_5_method_2_code 1 (Option.some (FieldType.object "PackingDuel$State"))) args σ Q Y := by
  obtain ⟨a0, rfl, hw⟩ := hw
  refine zof hG (by decide +kernel) [false] ⟨rfl, trivial⟩ (Nat.le_of_ble_eq_true rfl) (ls := [some (va_rf (some a0))]) rfl ?_
  intro X hX hR hTb hd1 hd2 hl hg hnm
  subst hl
  subst hg
  have hd : zDep X d := ⟨hd1, hd2⟩
  refine z_aload_n hX dX5_parse_0 rfl (i := 0) rfl ?_
  refine z_aload_n hX dX5_parse_1 rfl (i := 0) rfl ?_
  refine z_ldcS hX (tx := "duel") (j := 30) dX5_parse_2 (List.mem_of_getElem? (i := 30) rfl) ?_
  obtain ⟨a4, f5, r6, m7, hw⟩ := hw
  refine z_invVU hX hd r6 (ci := 7) rfl rfl m7 dX5_parse_4 (hC 315 _ zm315 _ _ _ _ hw) q1415 q1416 (z_declA hX q1417) q1419 q1418 zh13 q1420 q142 (zn315) rfl (Nat.le_of_ble_eq_true rfl) (st := [va_rf (some a0)]) rfl (zcs8 (Nat.le_of_ble_eq_true rfl)) rfl (zkI (fun v1 s2 hw => ?_)) (zout hX hR hTb)
  refine z_iconst hX (v := (1 : Int32)) dX5_parse_7 (by decide) ?_
  obtain ⟨a11, f12, r13, m14, hw⟩ := hw
  refine z_invVU hX hd r13 (ci := 7) rfl rfl m14 dX5_parse_8 (hC 317 _ zm317 _ _ _ _ hw) q1437 q1438 (z_declA hX q1439) q1441 q1440 zh13 q1442 q142 (zn317) rfl (Nat.le_of_ble_eq_true rfl) (st := []) rfl (zcs8 (Nat.le_of_ble_eq_true rfl)) rfl (zkV (fun s9 hw => ?_)) (zout hX hR hTb)
  refine z_aload_n hX dX5_parse_11 rfl (i := 0) rfl ?_
  obtain ⟨a16, f17, v15, r18, m19, e20, hw⟩ := hw
  refine z_get hX zc7 (k := 8) dX5_parse_12 (Nat.le_of_ble_eq_true rfl) (zlk hX q1375) r18 m19 e20 ?_
  refine z_aload_n hX dX5_parse_15 rfl (i := 0) rfl ?_
  refine z_iconst hX (v := (0 : Int32)) dX5_parse_16 (by decide) ?_
  refine z_sipush hX (v := (200 : Int32)) dX5_parse_17 (by decide) ?_
  obtain ⟨a24, f25, r26, m27, hw⟩ := hw
  refine z_invVU hX hd r26 (ci := 7) rfl rfl m27 dX5_parse_20 (hC 318 _ zm318 _ _ _ _ hw) q1471 q1472 (z_declA hX q1473) q1475 q1474 zh13 q1476 q142 (zn318) rfl (Nat.le_of_ble_eq_true rfl) (st := [va_rf v15]) rfl (zcs8 (Nat.le_of_ble_eq_true rfl)) rfl (zkI (fun v21 s22 hw => ?_)) (zout hX hR hTb)
  obtain ⟨a30, f31, r32, g33, m34, l35, hw⟩ := hw
  refine z_put hX zc1 (k := 3) dX5_parse_23 (Nat.le_of_ble_eq_true rfl) (zlkN hX "PackingDuel" q234) rfl rfl rfl r32 g33 m34 l35 (z_nm (fun s28 e29 => ?_))
  have hw := hw s28 e29
  refine z_aload_n hX dX5_parse_26 rfl (i := 0) rfl ?_
  obtain ⟨a37, f38, v36, r39, m40, e41, hw⟩ := hw
  refine z_get hX zc7 (k := 8) dX5_parse_27 (Nat.le_of_ble_eq_true rfl) (zlk hX q1375) r39 m40 e41 ?_
  refine z_aload_n hX dX5_parse_30 rfl (i := 0) rfl ?_
  refine z_iconst hX (v := (0 : Int32)) dX5_parse_31 (by decide) ?_
  refine z_sipush hX (v := (200 : Int32)) dX5_parse_32 (by decide) ?_
  obtain ⟨a45, f46, r47, m48, hw⟩ := hw
  refine z_invVU hX hd r47 (ci := 7) rfl rfl m48 dX5_parse_35 (hC 318 _ zm318 _ _ _ _ hw) q1471 q1472 (z_declA hX q1473) q1475 q1474 zh13 q1476 q142 (zn318) rfl (Nat.le_of_ble_eq_true rfl) (st := [va_rf v36]) rfl (zcs8 (Nat.le_of_ble_eq_true rfl)) rfl (zkI (fun v42 s43 hw => ?_)) (zout hX hR hTb)
  obtain ⟨a51, f52, r53, g54, m55, l56, hw⟩ := hw
  refine z_put hX zc1 (k := 4) dX5_parse_38 (Nat.le_of_ble_eq_true rfl) (zlkN hX "PackingDuel" q237) rfl rfl rfl r53 g54 m55 l56 (z_nm (fun s49 e50 => ?_))
  have hw := hw s49 e50
  refine z_aload_n hX dX5_parse_41 rfl (i := 0) rfl ?_
  obtain ⟨a58, f59, v57, r60, m61, e62, hw⟩ := hw
  refine z_get hX zc7 (k := 8) dX5_parse_42 (Nat.le_of_ble_eq_true rfl) (zlk hX q1375) r60 m61 e62 ?_
  refine z_aload_n hX dX5_parse_45 rfl (i := 0) rfl ?_
  refine z_ldcS hX (tx := "friendly") (j := 31) dX5_parse_46 (List.mem_of_getElem? (i := 31) rfl) ?_
  obtain ⟨a66, f67, r68, m69, hw⟩ := hw
  refine z_invVU hX hd r68 (ci := 7) rfl rfl m69 dX5_parse_48 (hC 315 _ zm315 _ _ _ _ hw) q1415 q1416 (z_declA hX q1417) q1419 q1418 zh13 q1420 q142 (zn315) rfl (Nat.le_of_ble_eq_true rfl) (st := [va_rf v57]) rfl (zcs8 (Nat.le_of_ble_eq_true rfl)) rfl (zkI (fun v63 s64 hw => ?_)) (zout hX hR hTb)
  obtain ⟨b78, hw⟩ := hw
  obtain ⟨a72, f73, r74, g75, m76, l77, hw⟩ := hw
  refine z_put hX zc1 (k := 5) dX5_parse_51 (Nat.le_of_ble_eq_true rfl) (zlkN hX "PackingDuel" q241) rfl (zn_z b78) (zf_z b78) r74 g75 m76 l77 (z_nm (fun s70 e71 => ?_))
  have hw := hw s70 e71
  refine z_aload_n hX dX5_parse_54 rfl (i := 0) rfl ?_
  refine z_bipush hX (v := (59 : Int32)) dX5_parse_55 (by decide) ?_
  obtain ⟨a82, f83, r84, m85, hw⟩ := hw
  refine z_invVU hX hd r84 (ci := 7) rfl rfl m85 dX5_parse_57 (hC 320 _ zm320 _ _ _ _ hw) q1485 q1486 (z_declA hX q1487) q1489 q1488 zh13 q1490 q142 (zn320) rfl (Nat.le_of_ble_eq_true rfl) (st := []) rfl (zcs8 (Nat.le_of_ble_eq_true rfl)) rfl (zkV (fun s80 hw => ?_)) (zout hX hR hTb)
  obtain ⟨n189, hw⟩ := hw
  refine zIt_w (P := fun (j : zS → Prop) => ∀  (s86 : zS), j  s86 → zW X s86 60 [some (va_rf (some a0))] []) (fun  _ h => h.elim) (fun rec87 hrec87  s86 hw => ?_) n189  _ hw
  refine z_aload_n hX dX5_parse_60 rfl (i := 0) rfl ?_
  obtain ⟨a91, f92, r93, m94, hw⟩ := hw
  refine z_invVU hX hd r93 (ci := 7) rfl rfl m94 dX5_parse_61 (hC 316 _ zm316 _ _ _ _ hw) q1497 q1498 (z_declA hX q1499) q1422 q1500 zh13 q1426 q142 (zn316) rfl (Nat.le_of_ble_eq_true rfl) (st := []) rfl (zcs8 (Nat.le_of_ble_eq_true rfl)) rfl (zkR (fun v88 s89 hw => ?_)) (zout hX hR hTb)
  refine z_ldcS hX (tx := "item") (j := 32) dX5_parse_64 (List.mem_of_getElem? (i := 32) rfl) ?_
  obtain ⟨a98, f99, r100, m101, hw⟩ := hw
  refine z_invV hX hd r100 (ci := 9) rfl rfl m101 dX5_parse_66 (hC 365 _ zm365 _ _ _ _ hw) q1502 q1430 q1431 zh17 q1432 q146 zn365 rfl (Nat.le_of_ble_eq_true rfl) (st := []) rfl (zcs8 (Nat.le_of_ble_eq_true rfl)) rfl (zkI (fun v95 s96 hw => ?_)) (zout hX hR hTb)
  refine z_if_eq hX dX5_parse_69 (tgt := 79) rfl (fun c102 => ?_) (fun c102 => ?_)
  · have hw := hw.1 c102
    obtain ⟨n181, hw⟩ := hw
    refine zIt_w (P := fun (j : zS → Prop) => ∀  (s103 : zS), j  s103 → zW X s103 79 [some (va_rf (some a0))] []) (fun  _ h => h.elim) (fun rec104 hrec104  s103 hw => ?_) n181  _ hw
    refine z_aload_n hX dX5_parse_79 rfl (i := 0) rfl ?_
    obtain ⟨a108, f109, r110, m111, hw⟩ := hw
    refine z_invVU hX hd r110 (ci := 7) rfl rfl m111 dX5_parse_80 (hC 316 _ zm316 _ _ _ _ hw) q1497 q1498 (z_declA hX q1499) q1422 q1500 zh13 q1426 q142 (zn316) rfl (Nat.le_of_ble_eq_true rfl) (st := []) rfl (zcs8 (Nat.le_of_ble_eq_true rfl)) rfl (zkR (fun v105 s106 hw => ?_)) (zout hX hR hTb)
    refine z_ldcS hX (tx := "plan") (j := 33) dX5_parse_83 (List.mem_of_getElem? (i := 33) rfl) ?_
    obtain ⟨a115, f116, r117, m118, hw⟩ := hw
    refine z_invV hX hd r117 (ci := 9) rfl rfl m118 dX5_parse_85 (hC 365 _ zm365 _ _ _ _ hw) q1502 q1430 q1431 zh17 q1432 q146 zn365 rfl (Nat.le_of_ble_eq_true rfl) (st := []) rfl (zcs8 (Nat.le_of_ble_eq_true rfl)) rfl (zkI (fun v112 s113 hw => ?_)) (zout hX hR hTb)
    refine zJ_w (P := fun (j : zS → Prop) => ∀  (s119 : zS), j  s119 → zW X s119 103 [some (va_rf (some a0))] []) hw (fun  s119 hw => ?_) (fun j120 hj120 hw => ?_)
    · refine z_aload_n hX dX5_parse_103 rfl (i := 0) rfl ?_
      refine z_aload_n hX dX5_parse_104 rfl (i := 0) rfl ?_
      obtain ⟨a124, f125, r126, m127, hw⟩ := hw
      refine z_invVU hX hd r126 (ci := 7) rfl rfl m127 dX5_parse_105 (hC 316 _ zm316 _ _ _ _ hw) q1497 q1498 (z_declA hX q1499) q1422 q1500 zh13 q1426 q142 (zn316) rfl (Nat.le_of_ble_eq_true rfl) (st := [va_rf (some a0)]) rfl (zcs8 (Nat.le_of_ble_eq_true rfl)) rfl (zkR (fun v121 s122 hw => ?_)) (zout hX hR hTb)
      refine z_ldcS hX (tx := "plan") (j := 33) dX5_parse_108 (List.mem_of_getElem? (i := 33) rfl) ?_
      obtain ⟨a131, f132, r133, m134, hw⟩ := hw
      refine z_invV hX hd r133 (ci := 9) rfl rfl m134 dX5_parse_110 (hC 365 _ zm365 _ _ _ _ hw) q1502 q1430 q1431 zh17 q1432 q146 zn365 rfl (Nat.le_of_ble_eq_true rfl) (st := [va_rf (some a0)]) rfl (zcs8 (Nat.le_of_ble_eq_true rfl)) rfl (zkI (fun v128 s129 hw => ?_)) (zout hX hR hTb)
      obtain ⟨a138, f139, r140, m141, hw⟩ := hw
      refine z_invV hX hd r140 (ci := 7) rfl rfl m141 dX5_parse_113 (hC 327 _ zm327 _ _ _ _ hw) q1527 q1529 qs20 zh14 q1530 q143 zn327 rfl (Nat.le_of_ble_eq_true rfl) (st := []) rfl (zcs8 (Nat.le_of_ble_eq_true rfl)) rfl (zkV (fun s136 hw => ?_)) (zout hX hR hTb)
      refine z_goto hX dX5_parse_116 (tgt := 79) rfl ?_
      exact hrec104  _ hw
    · refine z_if_ne hX dX5_parse_88 (tgt := 103) rfl (fun c142 => ?_) (fun c142 => ?_)
      · have hw := hw.1 c142
        exact hj120  _ hw
      · have hw := hw.2 c142
        refine z_aload_n hX dX5_parse_91 rfl (i := 0) rfl ?_
        obtain ⟨a146, f147, r148, m149, hw⟩ := hw
        refine z_invVU hX hd r148 (ci := 7) rfl rfl m149 dX5_parse_92 (hC 316 _ zm316 _ _ _ _ hw) q1497 q1498 (z_declA hX q1499) q1422 q1500 zh13 q1426 q142 (zn316) rfl (Nat.le_of_ble_eq_true rfl) (st := []) rfl (zcs8 (Nat.le_of_ble_eq_true rfl)) rfl (zkR (fun v143 s144 hw => ?_)) (zout hX hR hTb)
        refine z_ldcS hX (tx := "answer") (j := 34) dX5_parse_95 (List.mem_of_getElem? (i := 34) rfl) ?_
        obtain ⟨a153, f154, r155, m156, hw⟩ := hw
        refine z_invV hX hd r155 (ci := 9) rfl rfl m156 dX5_parse_97 (hC 365 _ zm365 _ _ _ _ hw) q1502 q1430 q1431 zh17 q1432 q146 zn365 rfl (Nat.le_of_ble_eq_true rfl) (st := []) rfl (zcs8 (Nat.le_of_ble_eq_true rfl)) rfl (zkI (fun v150 s151 hw => ?_)) (zout hX hR hTb)
        refine z_if_eq hX dX5_parse_100 (tgt := 119) rfl (fun c157 => ?_) (fun c157 => ?_)
        · have hw := hw.1 c157
          refine z_aload_n hX dX5_parse_119 rfl (i := 0) rfl ?_
          refine z_aload_n hX dX5_parse_120 rfl (i := 0) rfl ?_
          obtain ⟨a159, f160, v158, r161, m162, e163, hw⟩ := hw
          refine z_get hX zc7 (k := 6) dX5_parse_121 (Nat.le_of_ble_eq_true rfl) (zlkS hX "PackingDuel$DuelParser" q1385 q1386) r161 m162 e163 ?_
          refine z_gets hX dX5_parse_124 (List.mem_of_getElem? (i := 3) rfl) q1625 rfl ?_
          show zW _ _ _ _ (va_rf (some (X.g.2.2.2 53)) :: _)
          refine zJ_w (P := fun (j : Int32 → zS → Prop) => ∀ (p164 : Int32) (s165 : zS), j p164 s165 → zW X s165 135 [some (va_rf (some a0))] [.int p164, va_rf (some a0)]) hw (fun p164 s165 hw => ?_) (fun j166 hj166 hw => ?_)
          · refine z_iconst hX (v := (1 : Int32)) dX5_parse_135 (by decide) ?_
            obtain ⟨a170, f171, r172, m173, hw⟩ := hw
            refine z_invVU hX hd r172 (ci := 7) rfl rfl m173 dX5_parse_136 (hC 317 _ zm317 _ _ _ _ hw) q1437 q1438 (z_declA hX q1439) q1441 q1440 zh13 q1442 q142 (zn317) rfl (Nat.le_of_ble_eq_true rfl) (st := []) rfl (zcs8 (Nat.le_of_ble_eq_true rfl)) rfl (zkV (fun s168 hw => ?_)) (zout hX hR hTb)
            refine z_aload_n hX dX5_parse_139 rfl (i := 0) rfl ?_
            obtain ⟨a175, f176, v174, r177, m178, e179, hw⟩ := hw
            refine z_get hX zc7 (k := 8) dX5_parse_140 (Nat.le_of_ble_eq_true rfl) (zlk hX q1375) r177 m178 e179 ?_
            exact z_areturn hX hR dX5_parse_143 (Or.inl ⟨_, rfl⟩) hw
          · refine z_acmp_ne hX dX5_parse_127 (tgt := 134) rfl (fun c180 => ?_) (fun c180 => ?_)
            · have hw := hw.1 c180
              refine z_iconst hX (v := (0 : Int32)) dX5_parse_134 (by decide) ?_
              exact hj166 _ _ hw
            · have hw := hw.2 c180
              refine z_iconst hX (v := (1 : Int32)) dX5_parse_130 (by decide) ?_
              refine z_goto hX dX5_parse_131 (tgt := 135) rfl ?_
              exact hj166 _ _ hw
        · have hw := hw.2 c157
          exact hj120  _ hw
  · have hw := hw.2 c102
    refine z_aload_n hX dX5_parse_72 rfl (i := 0) rfl ?_
    obtain ⟨a185, f186, r187, m188, hw⟩ := hw
    refine z_invV hX hd r187 (ci := 7) rfl rfl m188 dX5_parse_73 (hC 326 _ zm326 _ _ _ _ hw) q1503 q1505 qs19 zh14 q1506 q143 zn326 rfl (Nat.le_of_ble_eq_true rfl) (st := []) rfl (zcs8 (Nat.le_of_ble_eq_true rfl)) rfl (zkV (fun s183 hw => ?_)) (zout hX hR hTb)
    refine z_goto hX dX5_parse_76 (tgt := 60) rfl ?_
    exact hrec87  _ hw
abbrev cX5_item : ByteArray := prog_5_method_3_code
def yX5_item : MethodName := ⟨RX5, "item", "()V"⟩
def dkwX5_item_4 : List UInt8 := [182, 0, 104, 87, 42, 16, 59, 182, 0, 51, 177]
abbrev dktX5_item_4 : List UInt8 := dkwX5_item_4 ++ []
def dkwX5_item_3 : List UInt8 := [79, 89, 4, 28, 79, 89, 5, 29, 79, 89, 6, 42, 3, 16, 99, 182, 0, 34, 79, 183, 0, 101]
abbrev dktX5_item_3 : List UInt8 := dkwX5_item_3 ++ dktX5_item_4
def dkwX5_item_2 : List UInt8 := [3, 16, 99, 182, 0, 34, 62, 42, 180, 0, 20, 180, 0, 86, 187, 0, 99, 89, 7, 188, 10, 89, 3, 27]
abbrev dktX5_item_2 : List UInt8 := dkwX5_item_2 ++ dktX5_item_3
def dkwX5_item_1 : List UInt8 := [182, 0, 30, 42, 182, 0, 96, 42, 4, 16, 50, 182, 0, 34, 60, 42, 3, 16, 99, 182, 0, 34, 61, 42]
abbrev dktX5_item_1 : List UInt8 := dkwX5_item_1 ++ dktX5_item_2
def dkwX5_item_0 : List UInt8 := [42, 42, 180, 0, 20, 180, 0, 86, 182, 0, 90, 16, 10, 162, 0, 7, 4, 167, 0, 4, 3, 6]
abbrev dktX5_item_0 : List UInt8 := dkwX5_item_0 ++ dktX5_item_1
theorem dksX5_item_0 : cX5_item.data.toList.drop 0 = dktX5_item_0 := by decide +kernel
theorem dksX5_item_1 : cX5_item.data.toList.drop 22 = dktX5_item_1 := dk_seg dksX5_item_0 22 rfl rfl
theorem dksX5_item_2 : cX5_item.data.toList.drop 46 = dktX5_item_2 := dk_seg dksX5_item_1 24 rfl rfl
theorem dksX5_item_3 : cX5_item.data.toList.drop 70 = dktX5_item_3 := dk_seg dksX5_item_2 24 rfl rfl
theorem dksX5_item_4 : cX5_item.data.toList.drop 92 = dktX5_item_4 := dk_seg dksX5_item_3 22 rfl rfl
theorem dX5_item_0 : decode cX5_item 0 = .ok (.aload_n 0, 1) := dk_42 (dk_at dksX5_item_0 0 rfl rfl)
theorem dX5_item_1 : decode cX5_item 1 = .ok (.aload_n 0, 1) := dk_42 (dk_at dksX5_item_0 1 rfl rfl)
theorem dX5_item_2 : decode cX5_item 2 = .ok (.getfield 20, 3) := dk_180 0 20 (dk_at dksX5_item_0 2 rfl rfl)
theorem dX5_item_5 : decode cX5_item 5 = .ok (.getfield 86, 3) := dk_180 0 86 (dk_at dksX5_item_0 5 rfl rfl)
theorem dX5_item_8 : decode cX5_item 8 = .ok (.invokevirtual 90, 3) := dk_182 0 90 (dk_at dksX5_item_0 8 rfl rfl)
theorem dX5_item_11 : decode cX5_item 11 = .ok (.bipush 10, 2) := dk_16 10 (dk_at dksX5_item_0 11 rfl rfl)
theorem dX5_item_13 : decode cX5_item 13 = .ok (.if_icmp .ge 7, 3) := dk_162 0 7 (dk_at dksX5_item_0 13 rfl rfl)
theorem dX5_item_16 : decode cX5_item 16 = .ok (.iconst 1, 1) := dk_4 (dk_at dksX5_item_0 16 rfl rfl)
theorem dX5_item_17 : decode cX5_item 17 = .ok (.goto 4, 3) := dk_167 0 4 (dk_at dksX5_item_0 17 rfl rfl)
theorem dX5_item_20 : decode cX5_item 20 = .ok (.iconst 0, 1) := dk_3 (dk_at dksX5_item_0 20 rfl rfl)
theorem dX5_item_21 : decode cX5_item 21 = .ok (.iconst 3, 1) := dk_6 (dk_at dksX5_item_0 21 rfl rfl)
theorem dX5_item_22 : decode cX5_item 22 = .ok (.invokevirtual 30, 3) := dk_182 0 30 (dk_at dksX5_item_1 0 rfl rfl)
theorem dX5_item_25 : decode cX5_item 25 = .ok (.aload_n 0, 1) := dk_42 (dk_at dksX5_item_1 3 rfl rfl)
theorem dX5_item_26 : decode cX5_item 26 = .ok (.invokevirtual 96, 3) := dk_182 0 96 (dk_at dksX5_item_1 4 rfl rfl)
theorem dX5_item_29 : decode cX5_item 29 = .ok (.aload_n 0, 1) := dk_42 (dk_at dksX5_item_1 7 rfl rfl)
theorem dX5_item_30 : decode cX5_item 30 = .ok (.iconst 1, 1) := dk_4 (dk_at dksX5_item_1 8 rfl rfl)
theorem dX5_item_31 : decode cX5_item 31 = .ok (.bipush 50, 2) := dk_16 50 (dk_at dksX5_item_1 9 rfl rfl)
theorem dX5_item_33 : decode cX5_item 33 = .ok (.invokevirtual 34, 3) := dk_182 0 34 (dk_at dksX5_item_1 11 rfl rfl)
theorem dX5_item_36 : decode cX5_item 36 = .ok (.istore_n 1, 1) := dk_60 (dk_at dksX5_item_1 14 rfl rfl)
theorem dX5_item_37 : decode cX5_item 37 = .ok (.aload_n 0, 1) := dk_42 (dk_at dksX5_item_1 15 rfl rfl)
theorem dX5_item_38 : decode cX5_item 38 = .ok (.iconst 0, 1) := dk_3 (dk_at dksX5_item_1 16 rfl rfl)
theorem dX5_item_39 : decode cX5_item 39 = .ok (.bipush 99, 2) := dk_16 99 (dk_at dksX5_item_1 17 rfl rfl)
theorem dX5_item_41 : decode cX5_item 41 = .ok (.invokevirtual 34, 3) := dk_182 0 34 (dk_at dksX5_item_1 19 rfl rfl)
theorem dX5_item_44 : decode cX5_item 44 = .ok (.istore_n 2, 1) := dk_61 (dk_at dksX5_item_1 22 rfl rfl)
theorem dX5_item_45 : decode cX5_item 45 = .ok (.aload_n 0, 1) := dk_42 (dk_at dksX5_item_1 23 rfl rfl)
theorem dX5_item_46 : decode cX5_item 46 = .ok (.iconst 0, 1) := dk_3 (dk_at dksX5_item_2 0 rfl rfl)
theorem dX5_item_47 : decode cX5_item 47 = .ok (.bipush 99, 2) := dk_16 99 (dk_at dksX5_item_2 1 rfl rfl)
theorem dX5_item_49 : decode cX5_item 49 = .ok (.invokevirtual 34, 3) := dk_182 0 34 (dk_at dksX5_item_2 3 rfl rfl)
theorem dX5_item_52 : decode cX5_item 52 = .ok (.istore_n 3, 1) := dk_62 (dk_at dksX5_item_2 6 rfl rfl)
theorem dX5_item_53 : decode cX5_item 53 = .ok (.aload_n 0, 1) := dk_42 (dk_at dksX5_item_2 7 rfl rfl)
theorem dX5_item_54 : decode cX5_item 54 = .ok (.getfield 20, 3) := dk_180 0 20 (dk_at dksX5_item_2 8 rfl rfl)
theorem dX5_item_57 : decode cX5_item 57 = .ok (.getfield 86, 3) := dk_180 0 86 (dk_at dksX5_item_2 11 rfl rfl)
theorem dX5_item_60 : decode cX5_item 60 = .ok (.new 99, 3) := dk_187 0 99 (dk_at dksX5_item_2 14 rfl rfl)
theorem dX5_item_63 : decode cX5_item 63 = .ok (.dup, 1) := dk_89 (dk_at dksX5_item_2 17 rfl rfl)
theorem dX5_item_64 : decode cX5_item 64 = .ok (.iconst 4, 1) := dk_7 (dk_at dksX5_item_2 18 rfl rfl)
theorem dX5_item_65 : decode cX5_item 65 = .ok (.newarray .int, 2) := dk_188_10 (dk_at dksX5_item_2 19 rfl rfl)
theorem dX5_item_67 : decode cX5_item 67 = .ok (.dup, 1) := dk_89 (dk_at dksX5_item_2 21 rfl rfl)
theorem dX5_item_68 : decode cX5_item 68 = .ok (.iconst 0, 1) := dk_3 (dk_at dksX5_item_2 22 rfl rfl)
theorem dX5_item_69 : decode cX5_item 69 = .ok (.iload_n 1, 1) := dk_27 (dk_at dksX5_item_2 23 rfl rfl)
theorem dX5_item_70 : decode cX5_item 70 = .ok (.iastore, 1) := dk_79 (dk_at dksX5_item_3 0 rfl rfl)
theorem dX5_item_71 : decode cX5_item 71 = .ok (.dup, 1) := dk_89 (dk_at dksX5_item_3 1 rfl rfl)
theorem dX5_item_72 : decode cX5_item 72 = .ok (.iconst 1, 1) := dk_4 (dk_at dksX5_item_3 2 rfl rfl)
theorem dX5_item_73 : decode cX5_item 73 = .ok (.iload_n 2, 1) := dk_28 (dk_at dksX5_item_3 3 rfl rfl)
theorem dX5_item_74 : decode cX5_item 74 = .ok (.iastore, 1) := dk_79 (dk_at dksX5_item_3 4 rfl rfl)
theorem dX5_item_75 : decode cX5_item 75 = .ok (.dup, 1) := dk_89 (dk_at dksX5_item_3 5 rfl rfl)
theorem dX5_item_76 : decode cX5_item 76 = .ok (.iconst 2, 1) := dk_5 (dk_at dksX5_item_3 6 rfl rfl)
theorem dX5_item_77 : decode cX5_item 77 = .ok (.iload_n 3, 1) := dk_29 (dk_at dksX5_item_3 7 rfl rfl)
theorem dX5_item_78 : decode cX5_item 78 = .ok (.iastore, 1) := dk_79 (dk_at dksX5_item_3 8 rfl rfl)
theorem dX5_item_79 : decode cX5_item 79 = .ok (.dup, 1) := dk_89 (dk_at dksX5_item_3 9 rfl rfl)
theorem dX5_item_80 : decode cX5_item 80 = .ok (.iconst 3, 1) := dk_6 (dk_at dksX5_item_3 10 rfl rfl)
theorem dX5_item_81 : decode cX5_item 81 = .ok (.aload_n 0, 1) := dk_42 (dk_at dksX5_item_3 11 rfl rfl)
theorem dX5_item_82 : decode cX5_item 82 = .ok (.iconst 0, 1) := dk_3 (dk_at dksX5_item_3 12 rfl rfl)
theorem dX5_item_83 : decode cX5_item 83 = .ok (.bipush 99, 2) := dk_16 99 (dk_at dksX5_item_3 13 rfl rfl)
theorem dX5_item_85 : decode cX5_item 85 = .ok (.invokevirtual 34, 3) := dk_182 0 34 (dk_at dksX5_item_3 15 rfl rfl)
theorem dX5_item_88 : decode cX5_item 88 = .ok (.iastore, 1) := dk_79 (dk_at dksX5_item_3 18 rfl rfl)
theorem dX5_item_89 : decode cX5_item 89 = .ok (.invokespecial 101, 3) := dk_183 0 101 (dk_at dksX5_item_3 19 rfl rfl)
theorem dX5_item_92 : decode cX5_item 92 = .ok (.invokevirtual 104, 3) := dk_182 0 104 (dk_at dksX5_item_4 0 rfl rfl)
theorem dX5_item_95 : decode cX5_item 95 = .ok (.pop, 1) := dk_87 (dk_at dksX5_item_4 3 rfl rfl)
theorem dX5_item_96 : decode cX5_item 96 = .ok (.aload_n 0, 1) := dk_42 (dk_at dksX5_item_4 4 rfl rfl)
theorem dX5_item_97 : decode cX5_item 97 = .ok (.bipush 59, 2) := dk_16 59 (dk_at dksX5_item_4 5 rfl rfl)
theorem dX5_item_99 : decode cX5_item 99 = .ok (.invokevirtual 51, 3) := dk_182 0 51 (dk_at dksX5_item_4 7 rfl rfl)
theorem dX5_item_102 : decode cX5_item 102 = .ok (.return_, 1) := dk_177 (dk_at dksX5_item_4 10 rfl rfl)
/-- PackingDuel$DuelParser.item()V -/
def zb326 (G : zPg) (C : zO) (args : List Value) (Q : zQ) (Y : zY) (σ : zS) : Prop := ∃ (a0 : Nat), args = [.ref a0] ∧ (zgR σ (some a0) 7 8 (fun v1 => zgR σ v1 1 0 (fun v7 => zrc σ v7 2 (fun a16 => zcl C 128 [.ref a16] Y σ (zqI (fun v13 s14 => zJ (fun (p20 : Int32) (s21 : zS) => zrc s21 (some a0) 7 (fun a26 => zcl C 317 [.ref a26, .int p20, .int (3 : Int32)] Y s21 (zqV (fun s24 => zrc s24 (some a0) 7 (fun a33 => zcl C 311 [.ref a33] Y s24 (zqV (fun s31 => zrc s31 (some a0) 7 (fun a40 => zcl C 318 [.ref a40, .int (1 : Int32), .int (50 : Int32)] Y s31 (zqI (fun v37 s38 => zrc s38 (some a0) 7 (fun a47 => zcl C 318 [.ref a47, .int (0 : Int32), .int (99 : Int32)] Y s38 (zqI (fun v44 s45 => zrc s45 (some a0) 7 (fun a54 => zcl C 318 [.ref a54, .int (0 : Int32), .int (99 : Int32)] Y s45 (zqI (fun v51 s52 => zgR s52 (some a0) 7 8 (fun v58 => zgR s52 v58 1 0 (fun v64 => znew s52 12 [va_rf none] 1 (fun s70 => znewA s70 0 (4 : Int32) (.inl (fun _ => 0)) (fun s73 => zsI s73 G.1 0 (some s70.2.1) (0 : Int32) v37 (fun s83 => zsI s83 G.1 0 (some s70.2.1) (1 : Int32) v44 (fun s92 => zsI s92 G.1 0 (some s70.2.1) (2 : Int32) v51 (fun s101 => zrc s101 (some a0) 7 (fun a106 => zcl C 318 [.ref a106, .int (0 : Int32), .int (99 : Int32)] Y s101 (zqI (fun v103 s104 => zsI s104 G.1 0 (some s70.2.1) (3 : Int32) v103 (fun s117 => (∃ a122, (some s52.2.1) = some a122 ∧ zcl C 446 [.ref a122, va_rf (some s70.2.1)] Y s117 (zqV (fun s120 => zrc s120 v64 2 (fun a127 => zcl C 131 [.ref a127, va_rf (some s52.2.1)] Y s120 (zqI (fun v124 s125 => zrc s125 (some a0) 7 (fun a134 => zcl C 320 [.ref a134, .int (59 : Int32)] Y s125 (zqV (fun s132 => Q none s132)))))))))))))))))))))))))))))))))))) (fun (j22 : Int32 → zS → Prop) => (((10 : Int32) ≤ v13) → j22 (0 : Int32) s14) ∧ ((¬ (10 : Int32) ≤ v13) → j22 (1 : Int32) s14))))))))
set_option maxHeartbeats 4000000 in
theorem wk326 {l : Launch} {g : zG} {d : Nat} {C : zO} (hG : zGk g) (hC : zSound l g d C) {args : List Value} {Q : zQ} {Y : zY} {σ : zS} (hw : zb326 (zpg g) C args Q Y σ) : zMet l g (d + 1) (⟨"PackingDuel$DuelParser", "item", "()V"⟩, Cond.code ⟨"PackingDuel$DuelParser", "item", "()V"⟩ prog_5_method_3_code 4 (Option.none : Option FieldType)) args σ Q Y := by
  obtain ⟨a0, rfl, hw⟩ := hw
  refine zof hG (by decide +kernel) [false] ⟨rfl, trivial⟩ (Nat.le_of_ble_eq_true rfl) (ls := [some (va_rf (some a0)), none, none, none]) rfl ?_
  intro X hX hR hTb hd1 hd2 hl hg hnm
  subst hl
  subst hg
  have hd : zDep X d := ⟨hd1, hd2⟩
  refine z_aload_n hX dX5_item_0 rfl (i := 0) rfl ?_
  refine z_aload_n hX dX5_item_1 rfl (i := 0) rfl ?_
  obtain ⟨a2, f3, v1, r4, m5, e6, hw⟩ := hw
  refine z_get hX zc7 (k := 8) dX5_item_2 (Nat.le_of_ble_eq_true rfl) (zlk hX q1375) r4 m5 e6 ?_
  obtain ⟨a8, f9, v7, r10, m11, e12, hw⟩ := hw
  refine z_get hX zc1 (k := 0) dX5_item_5 (Nat.le_of_ble_eq_true rfl) (zlkN hX "PackingDuel" q226) r10 m11 e12 ?_
  obtain ⟨a16, f17, r18, m19, hw⟩ := hw
  refine z_invV hX hd r18 (ci := 2) rfl rfl m19 dX5_item_8 (hC 128 _ zm128 _ _ _ _ hw) q1507 q362 q363 zh5 q364 q134 zn128 rfl (Nat.le_of_ble_eq_true rfl) (st := [va_rf (some a0)]) rfl (zcs8 (Nat.le_of_ble_eq_true rfl)) rfl (zkI (fun v13 s14 hw => ?_)) (zout hX hR hTb)
  refine z_bipush hX (v := (10 : Int32)) dX5_item_11 (by decide) ?_
  refine zJ_w (P := fun (j : Int32 → zS → Prop) => ∀ (p20 : Int32) (s21 : zS), j p20 s21 → zW X s21 21 [some (va_rf (some a0)), none, none, none] [.int p20, va_rf (some a0)]) hw (fun p20 s21 hw => ?_) (fun j22 hj22 hw => ?_)
  · refine z_iconst hX (v := (3 : Int32)) dX5_item_21 (by decide) ?_
    obtain ⟨a26, f27, r28, m29, hw⟩ := hw
    refine z_invVU hX hd r28 (ci := 7) rfl rfl m29 dX5_item_22 (hC 317 _ zm317 _ _ _ _ hw) q1437 q1438 (z_declA hX q1439) q1441 q1440 zh13 q1442 q142 (zn317) rfl (Nat.le_of_ble_eq_true rfl) (st := []) rfl (zcs8 (Nat.le_of_ble_eq_true rfl)) rfl (zkV (fun s24 hw => ?_)) (zout hX hR hTb)
    refine z_aload_n hX dX5_item_25 rfl (i := 0) rfl ?_
    obtain ⟨a33, f34, r35, m36, hw⟩ := hw
    refine z_invVU hX hd r35 (ci := 7) rfl rfl m36 dX5_item_26 (hC 311 _ zm311 _ _ _ _ hw) q1508 q1509 (z_declA hX q1510) q1126 q1511 zh13 q1130 q142 (zn311) rfl (Nat.le_of_ble_eq_true rfl) (st := []) rfl (zcs8 (Nat.le_of_ble_eq_true rfl)) rfl (zkV (fun s31 hw => ?_)) (zout hX hR hTb)
    refine z_aload_n hX dX5_item_29 rfl (i := 0) rfl ?_
    refine z_iconst hX (v := (1 : Int32)) dX5_item_30 (by decide) ?_
    refine z_bipush hX (v := (50 : Int32)) dX5_item_31 (by decide) ?_
    obtain ⟨a40, f41, r42, m43, hw⟩ := hw
    refine z_invVU hX hd r42 (ci := 7) rfl rfl m43 dX5_item_33 (hC 318 _ zm318 _ _ _ _ hw) q1471 q1472 (z_declA hX q1473) q1475 q1474 zh13 q1476 q142 (zn318) rfl (Nat.le_of_ble_eq_true rfl) (st := []) rfl (zcs8 (Nat.le_of_ble_eq_true rfl)) rfl (zkI (fun v37 s38 hw => ?_)) (zout hX hR hTb)
    refine z_istore_n hX dX5_item_36 rfl (i := 1) (Nat.le_of_ble_eq_true rfl) (zc_rf _) (ls2 := [some (va_rf (some a0)), some (.int v37), none, none]) rfl ?_
    refine z_aload_n hX dX5_item_37 rfl (i := 0) rfl ?_
    refine z_iconst hX (v := (0 : Int32)) dX5_item_38 (by decide) ?_
    refine z_bipush hX (v := (99 : Int32)) dX5_item_39 (by decide) ?_
    obtain ⟨a47, f48, r49, m50, hw⟩ := hw
    refine z_invVU hX hd r49 (ci := 7) rfl rfl m50 dX5_item_41 (hC 318 _ zm318 _ _ _ _ hw) q1471 q1472 (z_declA hX q1473) q1475 q1474 zh13 q1476 q142 (zn318) rfl (Nat.le_of_ble_eq_true rfl) (st := []) rfl (zcs8 (Nat.le_of_ble_eq_true rfl)) rfl (zkI (fun v44 s45 hw => ?_)) (zout hX hR hTb)
    refine z_istore_n hX dX5_item_44 rfl (i := 2) (Nat.le_of_ble_eq_true rfl) rfl (ls2 := [some (va_rf (some a0)), some (.int v37), some (.int v44), none]) rfl ?_
    refine z_aload_n hX dX5_item_45 rfl (i := 0) rfl ?_
    refine z_iconst hX (v := (0 : Int32)) dX5_item_46 (by decide) ?_
    refine z_bipush hX (v := (99 : Int32)) dX5_item_47 (by decide) ?_
    obtain ⟨a54, f55, r56, m57, hw⟩ := hw
    refine z_invVU hX hd r56 (ci := 7) rfl rfl m57 dX5_item_49 (hC 318 _ zm318 _ _ _ _ hw) q1471 q1472 (z_declA hX q1473) q1475 q1474 zh13 q1476 q142 (zn318) rfl (Nat.le_of_ble_eq_true rfl) (st := []) rfl (zcs8 (Nat.le_of_ble_eq_true rfl)) rfl (zkI (fun v51 s52 hw => ?_)) (zout hX hR hTb)
    refine z_istore_n hX dX5_item_52 rfl (i := 3) (Nat.le_of_ble_eq_true rfl) rfl (ls2 := [some (va_rf (some a0)), some (.int v37), some (.int v44), some (.int v51)]) rfl ?_
    refine z_aload_n hX dX5_item_53 rfl (i := 0) rfl ?_
    obtain ⟨a59, f60, v58, r61, m62, e63, hw⟩ := hw
    refine z_get hX zc7 (k := 8) dX5_item_54 (Nat.le_of_ble_eq_true rfl) (zlk hX q1375) r61 m62 e63 ?_
    obtain ⟨a65, f66, v64, r67, m68, e69, hw⟩ := hw
    refine z_get hX zc1 (k := 0) dX5_item_57 (Nat.le_of_ble_eq_true rfl) (zlkN hX "PackingDuel" q226) r67 m68 e69 ?_
    refine z_new hX zc12 dX5_item_60 q1512 q1513 q158 (fs := [va_rf none]) (fun j hj => by have hj : j < 1 := hj; exact zdf12 j hj) hw.1 hw.2.1 (fun z71 => z_nm (fun s70 e72 => ?_))
    have hw := hw.2.2 z71 s70 e72
    refine z_dup hX dX5_item_63 (zc_rf _) ?_
    refine z_iconst hX (v := (4 : Int32)) dX5_item_64 (by decide) ?_
    refine z_newI hX dX5_item_65 q394 hw.1 hw.2.1 hw.2.2.1 hw.2.2.2.1 (fun z74 => z_nm (fun s73 e75 => ?_))
    have hw := hw.2.2.2.2 z74 s73 e75
    refine z_dup hX dX5_item_67 (zc_rf _) ?_
    refine z_iconst hX (v := (0 : Int32)) dX5_item_68 (by decide) ?_
    refine z_iload_n hX dX5_item_69 rfl (i := 1) rfl ?_
    obtain ⟨a76, n77, f78, r79, g80, m81, i82, hw⟩ := hw
    refine z_iast hX dX5_item_70 r79 g80 m81 i82 (z_nm (fun s83 e84 => ?_))
    have hw := hw s83 e84
    refine z_dup hX dX5_item_71 (zc_rf _) ?_
    refine z_iconst hX (v := (1 : Int32)) dX5_item_72 (by decide) ?_
    refine z_iload_n hX dX5_item_73 rfl (i := 2) rfl ?_
    obtain ⟨a85, n86, f87, r88, g89, m90, i91, hw⟩ := hw
    refine z_iast hX dX5_item_74 r88 g89 m90 i91 (z_nm (fun s92 e93 => ?_))
    have hw := hw s92 e93
    refine z_dup hX dX5_item_75 (zc_rf _) ?_
    refine z_iconst hX (v := (2 : Int32)) dX5_item_76 (by decide) ?_
    refine z_iload_n hX dX5_item_77 rfl (i := 3) rfl ?_
    obtain ⟨a94, n95, f96, r97, g98, m99, i100, hw⟩ := hw
    refine z_iast hX dX5_item_78 r97 g98 m99 i100 (z_nm (fun s101 e102 => ?_))
    have hw := hw s101 e102
    refine z_dup hX dX5_item_79 (zc_rf _) ?_
    refine z_iconst hX (v := (3 : Int32)) dX5_item_80 (by decide) ?_
    refine z_aload_n hX dX5_item_81 rfl (i := 0) rfl ?_
    refine z_iconst hX (v := (0 : Int32)) dX5_item_82 (by decide) ?_
    refine z_bipush hX (v := (99 : Int32)) dX5_item_83 (by decide) ?_
    obtain ⟨a106, f107, r108, m109, hw⟩ := hw
    refine z_invVU hX hd r108 (ci := 7) rfl rfl m109 dX5_item_85 (hC 318 _ zm318 _ _ _ _ hw) q1471 q1472 (z_declA hX q1473) q1475 q1474 zh13 q1476 q142 (zn318) rfl (Nat.le_of_ble_eq_true rfl) (st := [.int (3 : Int32), va_rf (some s70.2.1), va_rf (some s70.2.1), va_rf (some s52.2.1), va_rf (some s52.2.1), va_rf v64]) rfl (zcsA ⟨rfl, ⟨(zc_rf _), ⟨(zc_rf _), ⟨(zc_rf _), ⟨(zc_rf _), ⟨(zc_rf _), trivial⟩⟩⟩⟩⟩⟩ (Nat.le_of_ble_eq_true rfl)) rfl (zkI (fun v103 s104 hw => ?_)) (zout hX hR hTb)
    obtain ⟨a110, n111, f112, r113, g114, m115, i116, hw⟩ := hw
    refine z_iast hX dX5_item_88 r113 g114 m115 i116 (z_nm (fun s117 e118 => ?_))
    have hw := hw s117 e118
    obtain ⟨a122, r123, hw⟩ := hw
    refine z_invI hX hd r123 dX5_item_89 (hC 446 _ zm446 _ _ _ _ hw) q1514 q1515 rfl zh27 q1516 q158 zn446 rfl (Nat.le_of_ble_eq_true rfl) (st := [va_rf (some s52.2.1), va_rf v64]) rfl (zcs8 (Nat.le_of_ble_eq_true rfl)) rfl (zkV (fun s120 hw => ?_)) (zout hX hR hTb)
    obtain ⟨a127, f128, r129, m130, hw⟩ := hw
    refine z_invV hX hd r129 (ci := 2) rfl rfl m130 dX5_item_92 (hC 131 _ zm131 _ _ _ _ hw) q1524 q765 q766 zh5 q767 q134 zn131 rfl (Nat.le_of_ble_eq_true rfl) (st := []) rfl (zcs8 (Nat.le_of_ble_eq_true rfl)) rfl (zkI (fun v124 s125 hw => ?_)) (zout hX hR hTb)
    refine z_pop hX dX5_item_95 rfl ?_
    refine z_aload_n hX dX5_item_96 rfl (i := 0) rfl ?_
    refine z_bipush hX (v := (59 : Int32)) dX5_item_97 (by decide) ?_
    obtain ⟨a134, f135, r136, m137, hw⟩ := hw
    refine z_invVU hX hd r136 (ci := 7) rfl rfl m137 dX5_item_99 (hC 320 _ zm320 _ _ _ _ hw) q1485 q1486 (z_declA hX q1487) q1489 q1488 zh13 q1490 q142 (zn320) rfl (Nat.le_of_ble_eq_true rfl) (st := []) rfl (zcs8 (Nat.le_of_ble_eq_true rfl)) rfl (zkV (fun s132 hw => ?_)) (zout hX hR hTb)
    exact z_return hX hR dX5_item_102 hw
  · refine z_icmp_ge hX dX5_item_13 (tgt := 20) rfl (fun c138 => ?_) (fun c138 => ?_)
    · have hw := hw.1 c138
      refine z_iconst hX (v := (0 : Int32)) dX5_item_20 (by decide) ?_
      exact hj22 _ _ hw
    · have hw := hw.2 c138
      refine z_iconst hX (v := (1 : Int32)) dX5_item_16 (by decide) ?_
      refine z_goto hX dX5_item_17 (tgt := 21) rfl ?_
      exact hj22 _ _ hw
abbrev cX5_joined : ByteArray := prog_5_method_7_code
def yX5_joined : MethodName := ⟨RX5, "joined", "(II)I"⟩
def dkwX5_joined_1 : List UInt8 := [128, 182, 0, 154, 154, 0, 11, 187, 0, 130, 89, 183, 0, 158, 191, 27, 4, 28, 120, 128, 172]
abbrev dktX5_joined_1 : List UInt8 := dkwX5_joined_1 ++ []
def dkwX5_joined_0 : List UInt8 := [27, 28, 184, 0, 149, 153, 0, 11, 187, 0, 128, 89, 183, 0, 153, 191, 42, 180, 0, 20, 27, 4, 28, 120]
abbrev dktX5_joined_0 : List UInt8 := dkwX5_joined_0 ++ dktX5_joined_1
theorem dksX5_joined_0 : cX5_joined.data.toList.drop 0 = dktX5_joined_0 := by decide +kernel
theorem dksX5_joined_1 : cX5_joined.data.toList.drop 24 = dktX5_joined_1 := dk_seg dksX5_joined_0 24 rfl rfl
theorem dX5_joined_0 : decode cX5_joined 0 = .ok (.iload_n 1, 1) := dk_27 (dk_at dksX5_joined_0 0 rfl rfl)
theorem dX5_joined_1 : decode cX5_joined 1 = .ok (.iload_n 2, 1) := dk_28 (dk_at dksX5_joined_0 1 rfl rfl)
theorem dX5_joined_2 : decode cX5_joined 2 = .ok (.invokestatic 149, 3) := dk_184 0 149 (dk_at dksX5_joined_0 2 rfl rfl)
theorem dX5_joined_5 : decode cX5_joined 5 = .ok (.ifCond .eq 11, 3) := dk_153 0 11 (dk_at dksX5_joined_0 5 rfl rfl)
theorem dX5_joined_8 : decode cX5_joined 8 = .ok (.new 128, 3) := dk_187 0 128 (dk_at dksX5_joined_0 8 rfl rfl)
theorem dX5_joined_11 : decode cX5_joined 11 = .ok (.dup, 1) := dk_89 (dk_at dksX5_joined_0 11 rfl rfl)
theorem dX5_joined_12 : decode cX5_joined 12 = .ok (.invokespecial 153, 3) := dk_183 0 153 (dk_at dksX5_joined_0 12 rfl rfl)
theorem dX5_joined_15 : decode cX5_joined 15 = .ok (.athrow, 1) := dk_191 (dk_at dksX5_joined_0 15 rfl rfl)
theorem dX5_joined_16 : decode cX5_joined 16 = .ok (.aload_n 0, 1) := dk_42 (dk_at dksX5_joined_0 16 rfl rfl)
theorem dX5_joined_17 : decode cX5_joined 17 = .ok (.getfield 20, 3) := dk_180 0 20 (dk_at dksX5_joined_0 17 rfl rfl)
theorem dX5_joined_20 : decode cX5_joined 20 = .ok (.iload_n 1, 1) := dk_27 (dk_at dksX5_joined_0 20 rfl rfl)
theorem dX5_joined_21 : decode cX5_joined 21 = .ok (.iconst 1, 1) := dk_4 (dk_at dksX5_joined_0 21 rfl rfl)
theorem dX5_joined_22 : decode cX5_joined 22 = .ok (.iload_n 2, 1) := dk_28 (dk_at dksX5_joined_0 22 rfl rfl)
theorem dX5_joined_23 : decode cX5_joined 23 = .ok (.ishl, 1) := dk_120 (dk_at dksX5_joined_0 23 rfl rfl)
theorem dX5_joined_24 : decode cX5_joined 24 = .ok (.ior, 1) := dk_128 (dk_at dksX5_joined_1 0 rfl rfl)
theorem dX5_joined_25 : decode cX5_joined 25 = .ok (.invokevirtual 154, 3) := dk_182 0 154 (dk_at dksX5_joined_1 1 rfl rfl)
theorem dX5_joined_28 : decode cX5_joined 28 = .ok (.ifCond .ne 11, 3) := dk_154 0 11 (dk_at dksX5_joined_1 4 rfl rfl)
theorem dX5_joined_31 : decode cX5_joined 31 = .ok (.new 130, 3) := dk_187 0 130 (dk_at dksX5_joined_1 7 rfl rfl)
theorem dX5_joined_34 : decode cX5_joined 34 = .ok (.dup, 1) := dk_89 (dk_at dksX5_joined_1 10 rfl rfl)
theorem dX5_joined_35 : decode cX5_joined 35 = .ok (.invokespecial 158, 3) := dk_183 0 158 (dk_at dksX5_joined_1 11 rfl rfl)
theorem dX5_joined_38 : decode cX5_joined 38 = .ok (.athrow, 1) := dk_191 (dk_at dksX5_joined_1 14 rfl rfl)
theorem dX5_joined_39 : decode cX5_joined 39 = .ok (.iload_n 1, 1) := dk_27 (dk_at dksX5_joined_1 15 rfl rfl)
theorem dX5_joined_40 : decode cX5_joined 40 = .ok (.iconst 1, 1) := dk_4 (dk_at dksX5_joined_1 16 rfl rfl)
theorem dX5_joined_41 : decode cX5_joined 41 = .ok (.iload_n 2, 1) := dk_28 (dk_at dksX5_joined_1 17 rfl rfl)
theorem dX5_joined_42 : decode cX5_joined 42 = .ok (.ishl, 1) := dk_120 (dk_at dksX5_joined_1 18 rfl rfl)
theorem dX5_joined_43 : decode cX5_joined 43 = .ok (.ior, 1) := dk_128 (dk_at dksX5_joined_1 19 rfl rfl)
theorem dX5_joined_44 : decode cX5_joined 44 = .ok (.ireturn, 1) := dk_172 (dk_at dksX5_joined_1 20 rfl rfl)
/-- PackingDuel$DuelParser.joined(II)I -/
def zb329 (G : zPg) (C : zO) (args : List Value) (Q : zQ) (Y : zY) (σ : zS) : Prop := ∃ (a0 : Nat) (x1 : Int32) (x2 : Int32), args = [.ref a0, .int x1, .int x2] ∧ (zcl C 31 [.int x1, .int x2] Y σ (zqI (fun v1 s2 => ((v1 = 0) → zgR s2 (some a0) 7 8 (fun v5 => zrc s2 v5 1 (fun a14 => zcl C 84 [.ref a14, .int (x1 ||| ((1 : Int32) <<< (x2 &&& 31)))] Y s2 (zqI (fun v11 s12 => ((¬ v11 = 0) → Q (some (.int (x1 ||| ((1 : Int32) <<< (x2 &&& 31))))) s12) ∧ ((v11 = 0) → znew s12 15 [va_rf none, va_rf none, va_rf none, va_rf none, va_rf none, .int 0] 6 (fun s19 => (∃ a25, (some s12.2.1) = some a25 ∧ zcl C 455 [.ref a25] Y s19 (zqV (fun s23 => ∃ q27, (some s12.2.1) = some q27 ∧ Y q27 s23)))))))))) ∧ ((¬ v1 = 0) → znew s2 13 [va_rf none, va_rf none, va_rf none, va_rf none, va_rf none, .int 0] 6 (fun s29 => (∃ a35, (some s2.2.1) = some a35 ∧ zcl C 449 [.ref a35] Y s29 (zqV (fun s33 => ∃ q37, (some s2.2.1) = some q37 ∧ Y q37 s33))))))))
set_option maxHeartbeats 4000000 in
theorem wk329 {l : Launch} {g : zG} {d : Nat} {C : zO} (hG : zGk g) (hC : zSound l g d C) {args : List Value} {Q : zQ} {Y : zY} {σ : zS} (hw : zb329 (zpg g) C args Q Y σ) : zMet l g (d + 1) (⟨"PackingDuel$DuelParser", "joined", "(II)I"⟩, Cond.code ⟨"PackingDuel$DuelParser", "joined", "(II)I"⟩ prog_5_method_7_code 3 (Option.some FieldType.int)) args σ Q Y := by
  obtain ⟨a0, x1, x2, rfl, hw⟩ := hw
  refine zof hG (by decide +kernel) [false, false, false] ⟨rfl, rfl, rfl, trivial⟩ (Nat.le_of_ble_eq_true rfl) (ls := [some (va_rf (some a0)), some (.int x1), some (.int x2)]) rfl ?_
  intro X hX hR hTb hd1 hd2 hl hg hnm
  subst hl
  subst hg
  have hd : zDep X d := ⟨hd1, hd2⟩
  refine z_iload_n hX dX5_joined_0 rfl (i := 1) rfl ?_
  refine z_iload_n hX dX5_joined_1 rfl (i := 2) rfl ?_
  refine z_invSN hX hd dX5_joined_2 (hC 31 _ zm31 _ _ _ _ hw) q1550 q523 zh1 q524 q130 zn31 rfl (Nat.le_of_ble_eq_true rfl) (st := []) rfl (zcs8 (Nat.le_of_ble_eq_true rfl)) rfl (zkI (fun v1 s2 hw => ?_)) (zout hX hR hTb)
  refine z_if_eq hX dX5_joined_5 (tgt := 16) rfl (fun c4 => ?_) (fun c4 => ?_)
  · have hw := hw.1 c4
    refine z_aload_n hX dX5_joined_16 rfl (i := 0) rfl ?_
    obtain ⟨a6, f7, v5, r8, m9, e10, hw⟩ := hw
    refine z_get hX zc7 (k := 8) dX5_joined_17 (Nat.le_of_ble_eq_true rfl) (zlk hX q1375) r8 m9 e10 ?_
    refine z_iload_n hX dX5_joined_20 rfl (i := 1) rfl ?_
    refine z_iconst hX (v := (1 : Int32)) dX5_joined_21 (by decide) ?_
    refine z_iload_n hX dX5_joined_22 rfl (i := 2) rfl ?_
    refine z_ishl hX dX5_joined_23 ?_
    refine z_ior hX dX5_joined_24 ?_
    obtain ⟨a14, f15, r16, m17, hw⟩ := hw
    refine z_invV hX hd r16 (ci := 1) rfl rfl m17 dX5_joined_25 (hC 84 _ zm84 _ _ _ _ hw) q1569 q400 q401 zh2 q402 q131 zn84 rfl (Nat.le_of_ble_eq_true rfl) (st := []) rfl (zcs8 (Nat.le_of_ble_eq_true rfl)) rfl (zkI (fun v11 s12 hw => ?_)) (zout hX hR hTb)
    refine z_if_ne hX dX5_joined_28 (tgt := 39) rfl (fun c18 => ?_) (fun c18 => ?_)
    · have hw := hw.1 c18
      refine z_iload_n hX dX5_joined_39 rfl (i := 1) rfl ?_
      refine z_iconst hX (v := (1 : Int32)) dX5_joined_40 (by decide) ?_
      refine z_iload_n hX dX5_joined_41 rfl (i := 2) rfl ?_
      refine z_ishl hX dX5_joined_42 ?_
      refine z_ior hX dX5_joined_43 ?_
      exact z_ireturn hX hR dX5_joined_44 rfl hw
    · have hw := hw.2 c18
      refine z_new hX zc15 dX5_joined_31 q1545 q1570 q163 (fs := [va_rf none, va_rf none, va_rf none, va_rf none, va_rf none, .int 0]) (fun j hj => by have hj : j < 6 := hj; exact zdf15 j hj) hw.1 hw.2.1 (fun z20 => z_nm (fun s19 e21 => ?_))
      have hw := hw.2.2 z20 s19 e21
      refine z_dup hX dX5_joined_34 (zc_rf _) ?_
      obtain ⟨a25, r26, hw⟩ := hw
      refine z_invIN hX hd r26 dX5_joined_35 (hC 455 _ zm455 _ _ _ _ hw) q1578 q1579 rfl zh32 q1580 q163 zn455 rfl (Nat.le_of_ble_eq_true rfl) (st := [va_rf (some s12.2.1)]) rfl (zcs8 (Nat.le_of_ble_eq_true rfl)) rfl (zkV (fun s23 hw => ?_)) (zout hX hR hTb)
      obtain ⟨q27, r28, hw⟩ := hw
      exact z_athrow hX dX5_joined_38 r28 ((zout hX hR hTb) _ _ hw)
  · have hw := hw.2 c4
    refine z_new hX zc13 dX5_joined_8 q1544 q1551 q160 (fs := [va_rf none, va_rf none, va_rf none, va_rf none, va_rf none, .int 0]) (fun j hj => by have hj : j < 6 := hj; exact zdf13 j hj) hw.1 hw.2.1 (fun z30 => z_nm (fun s29 e31 => ?_))
    have hw := hw.2.2 z30 s29 e31
    refine z_dup hX dX5_joined_11 (zc_rf _) ?_
    obtain ⟨a35, r36, hw⟩ := hw
    refine z_invIN hX hd r36 dX5_joined_12 (hC 449 _ zm449 _ _ _ _ hw) q1560 q1561 rfl zh29 q1562 q160 zn449 rfl (Nat.le_of_ble_eq_true rfl) (st := [va_rf (some s2.2.1)]) rfl (zcs8 (Nat.le_of_ble_eq_true rfl)) rfl (zkV (fun s33 hw => ?_)) (zout hX hR hTb)
    obtain ⟨q37, r38, hw⟩ := hw
    exact z_athrow hX dX5_joined_15 r38 ((zout hX hR hTb) _ _ hw)
abbrev cX5_wrong : ByteArray := prog_5_method_6_code
def yX5_wrong : MethodName := ⟨RX5, "wrong", "(LPackingDuel$MemberError;)LPackingDuel$TextError;"⟩
def dkwX5_wrong_0 : List UInt8 := [187, 0, 136, 89, 43, 182, 0, 138, 42, 182, 0, 143, 43, 183, 0, 146, 176]
abbrev dktX5_wrong_0 : List UInt8 := dkwX5_wrong_0 ++ []
theorem dksX5_wrong_0 : cX5_wrong.data.toList.drop 0 = dktX5_wrong_0 := by decide +kernel
theorem dX5_wrong_0 : decode cX5_wrong 0 = .ok (.new 136, 3) := dk_187 0 136 (dk_at dksX5_wrong_0 0 rfl rfl)
theorem dX5_wrong_3 : decode cX5_wrong 3 = .ok (.dup, 1) := dk_89 (dk_at dksX5_wrong_0 3 rfl rfl)
theorem dX5_wrong_4 : decode cX5_wrong 4 = .ok (.aload_n 1, 1) := dk_43 (dk_at dksX5_wrong_0 4 rfl rfl)
theorem dX5_wrong_5 : decode cX5_wrong 5 = .ok (.invokevirtual 138, 3) := dk_182 0 138 (dk_at dksX5_wrong_0 5 rfl rfl)
theorem dX5_wrong_8 : decode cX5_wrong 8 = .ok (.aload_n 0, 1) := dk_42 (dk_at dksX5_wrong_0 8 rfl rfl)
theorem dX5_wrong_9 : decode cX5_wrong 9 = .ok (.invokevirtual 143, 3) := dk_182 0 143 (dk_at dksX5_wrong_0 9 rfl rfl)
theorem dX5_wrong_12 : decode cX5_wrong 12 = .ok (.aload_n 1, 1) := dk_43 (dk_at dksX5_wrong_0 12 rfl rfl)
theorem dX5_wrong_13 : decode cX5_wrong 13 = .ok (.invokespecial 146, 3) := dk_183 0 146 (dk_at dksX5_wrong_0 13 rfl rfl)
theorem dX5_wrong_16 : decode cX5_wrong 16 = .ok (.areturn, 1) := dk_176 (dk_at dksX5_wrong_0 16 rfl rfl)
/-- PackingDuel$DuelParser.wrong(LPackingDuel$MemberError;)LPackingDuel$TextError; -/
def zb330 (G : zPg) (C : zO) (args : List Value) (Q : zQ) (Y : zY) (σ : zS) : Prop := ∃ (a0 : Nat) (x1 : Option Nat), args = [.ref a0, va_rf x1] ∧ (znew σ 11 [va_rf none, va_rf none, va_rf none, va_rf none, va_rf none, .int 0, .int 0, .int 0] 8 (fun s1 => zJ (fun (v4 : Int32) (s5 : zS) => zrc s5 (some a0) 7 (fun a17 => zcl C 322 [.ref a17] Y s5 (zqI (fun v14 s15 => (∃ a24, (some σ.2.1) = some a24 ∧ zcl C 445 [.ref a24, .int v4, .int v14, va_rf x1] Y s15 (zqV (fun s22 => Q (some (va_rf (some σ.2.1))) s22))))))) (fun (j7 : Int32 → zS → Prop) => zrcM s1 x1 [13, 15] (fun a8 c9 => (c9 = 13 → zcl C 450 [.ref a8] Y s1 (zqI j7)) ∧ (c9 = 15 → zcl C 456 [.ref a8] Y s1 (zqI j7))))))
set_option maxHeartbeats 4000000 in
theorem wk330 {l : Launch} {g : zG} {d : Nat} {C : zO} (hG : zGk g) (hC : zSound l g d C) {args : List Value} {Q : zQ} {Y : zY} {σ : zS} (hw : zb330 (zpg g) C args Q Y σ) : zMet l g (d + 1) (⟨"PackingDuel$DuelParser", "wrong", "(LPackingDuel$MemberError;)LPackingDuel$TextError;"⟩, Cond.code ⟨"PackingDuel$DuelParser", "wrong", "(LPackingDuel$MemberError;)LPackingDuel$TextError;"⟩ prog_5_method_6_code 2 (Option.some (FieldType.object "PackingDuel$TextError"))) args σ Q Y := by
  obtain ⟨a0, x1, rfl, hw⟩ := hw
  refine zof hG (by decide +kernel) [false, false] ⟨rfl, (zc_rf _), trivial⟩ (Nat.le_of_ble_eq_true rfl) (ls := [some (va_rf (some a0)), some (va_rf x1)]) rfl ?_
  intro X hX hR hTb hd1 hd2 hl hg hnm
  subst hl
  subst hg
  have hd : zDep X d := ⟨hd1, hd2⟩
  refine z_new hX zc11 dX5_wrong_0 q1588 q1444 q157 (fs := [va_rf none, va_rf none, va_rf none, va_rf none, va_rf none, .int 0, .int 0, .int 0]) (fun j hj => by have hj : j < 8 := hj; exact zdf11 j hj) hw.1 hw.2.1 (fun z2 => z_nm (fun s1 e3 => ?_))
  have hw := hw.2.2 z2 s1 e3
  refine z_dup hX dX5_wrong_3 (zc_rf _) ?_
  refine z_aload_n hX dX5_wrong_4 rfl (i := 1) rfl ?_
  refine zJ_v (P := fun (j : Int32 → zS → Prop) => ∀ (v4 : Int32) (s5 : zS), j v4 s5 → zW X s5 8 [some (va_rf (some a0)), some (va_rf x1)] [.int v4, va_rf (some σ.2.1), va_rf (some σ.2.1)]) hw (fun j7 hj7 hw => ?_) (fun v4 s5 hw => ?_)
  · obtain ⟨a8, c9, f10, r11, h12, m13, hw⟩ := hw
    simp only [List.mem_cons, List.not_mem_nil, or_false] at h12
    rcases h12 with rfl | rfl
    · have hw := hw.1 rfl
      refine z_invVU hX hd r11 (ci := 13) rfl rfl m13 dX5_wrong_5 (hC 450 _ zm450 _ _ _ _ hw) q1589 q1591 (z_declA hX q1590) q1596 q1595 zh28 q1597 q160 (zn450) rfl (Nat.le_of_ble_eq_true rfl) (st := [va_rf (some σ.2.1), va_rf (some σ.2.1)]) rfl (zcs8 (Nat.le_of_ble_eq_true rfl)) rfl (zkI (fun v4 s5 hw => ?_)) (zout hX hR hTb)
      exact hj7 _ _ hw
    · have hw := hw.2 rfl
      refine z_invVU hX hd r11 (ci := 15) rfl rfl m13 dX5_wrong_5 (hC 456 _ zm456 _ _ _ _ hw) q1589 q1591 (z_declA hX q1590) q1593 q1592 zh28 q1594 q163 (zn456) rfl (Nat.le_of_ble_eq_true rfl) (st := [va_rf (some σ.2.1), va_rf (some σ.2.1)]) rfl (zcs8 (Nat.le_of_ble_eq_true rfl)) rfl (zkI (fun v4 s5 hw => ?_)) (zout hX hR hTb)
      exact hj7 _ _ hw
  refine z_aload_n hX dX5_wrong_8 rfl (i := 0) rfl ?_
  obtain ⟨a17, f18, r19, m20, hw⟩ := hw
  refine z_invVU hX hd r19 (ci := 7) rfl rfl m20 dX5_wrong_9 (hC 322 _ zm322 _ _ _ _ hw) q1598 q1599 (z_declA hX q1600) q1602 q1601 zh13 q1603 q142 (zn322) rfl (Nat.le_of_ble_eq_true rfl) (st := [.int v4, va_rf (some σ.2.1), va_rf (some σ.2.1)]) rfl (zcs8 (Nat.le_of_ble_eq_true rfl)) rfl (zkI (fun v14 s15 hw => ?_)) (zout hX hR hTb)
  refine z_aload_n hX dX5_wrong_12 rfl (i := 1) rfl ?_
  obtain ⟨a24, r25, hw⟩ := hw
  refine z_invI hX hd r25 dX5_wrong_13 (hC 445 _ zm445 _ _ _ _ hw) q1604 q1453 rfl zh26 q1454 q157 zn445 rfl (Nat.le_of_ble_eq_true rfl) (st := [va_rf (some σ.2.1)]) rfl (zcs8 (Nat.le_of_ble_eq_true rfl)) rfl (zkV (fun s22 hw => ?_)) (zout hX hR hTb)
  exact z_areturn hX hR dX5_wrong_16 (Or.inl ⟨_, rfl⟩) hw
abbrev cX6_init : ByteArray := prog_24_method_1_code
def yX6_init : MethodName := ⟨RX6, "<init>", "(IILjava/lang/Exception;)V"⟩
def dkwX6_init_0 : List UInt8 := [42, 1, 45, 3, 3, 183, 0, 1, 42, 27, 181, 0, 7, 42, 28, 181, 0, 13, 177]
abbrev dktX6_init_0 : List UInt8 := dkwX6_init_0 ++ []
theorem dksX6_init_0 : cX6_init.data.toList.drop 0 = dktX6_init_0 := by decide +kernel
theorem dX6_init_0 : decode cX6_init 0 = .ok (.aload_n 0, 1) := dk_42 (dk_at dksX6_init_0 0 rfl rfl)
theorem dX6_init_1 : decode cX6_init 1 = .ok (.aconst_null, 1) := dk_1 (dk_at dksX6_init_0 1 rfl rfl)
theorem dX6_init_2 : decode cX6_init 2 = .ok (.aload_n 3, 1) := dk_45 (dk_at dksX6_init_0 2 rfl rfl)
theorem dX6_init_3 : decode cX6_init 3 = .ok (.iconst 0, 1) := dk_3 (dk_at dksX6_init_0 3 rfl rfl)
theorem dX6_init_4 : decode cX6_init 4 = .ok (.iconst 0, 1) := dk_3 (dk_at dksX6_init_0 4 rfl rfl)
theorem dX6_init_5 : decode cX6_init 5 = .ok (.invokespecial 1, 3) := dk_183 0 1 (dk_at dksX6_init_0 5 rfl rfl)
theorem dX6_init_8 : decode cX6_init 8 = .ok (.aload_n 0, 1) := dk_42 (dk_at dksX6_init_0 8 rfl rfl)
theorem dX6_init_9 : decode cX6_init 9 = .ok (.iload_n 1, 1) := dk_27 (dk_at dksX6_init_0 9 rfl rfl)
theorem dX6_init_10 : decode cX6_init 10 = .ok (.putfield 7, 3) := dk_181 0 7 (dk_at dksX6_init_0 10 rfl rfl)
theorem dX6_init_13 : decode cX6_init 13 = .ok (.aload_n 0, 1) := dk_42 (dk_at dksX6_init_0 13 rfl rfl)
theorem dX6_init_14 : decode cX6_init 14 = .ok (.iload_n 2, 1) := dk_28 (dk_at dksX6_init_0 14 rfl rfl)
theorem dX6_init_15 : decode cX6_init 15 = .ok (.putfield 13, 3) := dk_181 0 13 (dk_at dksX6_init_0 15 rfl rfl)
theorem dX6_init_18 : decode cX6_init 18 = .ok (.return_, 1) := dk_177 (dk_at dksX6_init_0 18 rfl rfl)
/-- PackingDuel$TextError.<init>(IILjava/lang/Exception;)V -/
def zb445 (G : zPg) (C : zO) (args : List Value) (Q : zQ) (Y : zY) (σ : zS) : Prop := ∃ (a0 : Nat) (x1 : Int32) (x2 : Int32) (x3 : Option Nat), args = [.ref a0, .int x1, .int x2, va_rf x3] ∧ ((∃ a4, (some a0) = some a4 ∧ zcl C 305 [.ref a4, va_rf none, va_rf x3, .int (0 : Int32), .int (0 : Int32)] Y σ (zqV (fun s2 => zput s2 G.1 (some a0) 11 6 (.int x1) (fun s6 => zput s6 G.1 (some a0) 11 7 (.int x2) (fun s14 => Q none s14))))))
set_option maxHeartbeats 4000000 in
theorem wk445 {l : Launch} {g : zG} {d : Nat} {C : zO} (hG : zGk g) (hC : zSound l g d C) {args : List Value} {Q : zQ} {Y : zY} {σ : zS} (hw : zb445 (zpg g) C args Q Y σ) : zMet l g (d + 1) (⟨"PackingDuel$TextError", "<init>", "(IILjava/lang/Exception;)V"⟩, Cond.code ⟨"PackingDuel$TextError", "<init>", "(IILjava/lang/Exception;)V"⟩ prog_24_method_1_code 4 (Option.none : Option FieldType)) args σ Q Y := by
  obtain ⟨a0, x1, x2, x3, rfl, hw⟩ := hw
  refine zof hG (by decide +kernel) [false, false, false, false] ⟨rfl, rfl, rfl, (zc_rf _), trivial⟩ (Nat.le_of_ble_eq_true rfl) (ls := [some (va_rf (some a0)), some (.int x1), some (.int x2), some (va_rf x3)]) rfl ?_
  intro X hX hR hTb hd1 hd2 hl hg hnm
  subst hl
  subst hg
  have hd : zDep X d := ⟨hd1, hd2⟩
  refine z_aload_n hX dX6_init_0 rfl (i := 0) rfl ?_
  refine z_null hX dX6_init_1 ?_
  refine z_aload_n hX dX6_init_2 rfl (i := 3) rfl ?_
  refine z_iconst hX (v := (0 : Int32)) dX6_init_3 (by decide) ?_
  refine z_iconst hX (v := (0 : Int32)) dX6_init_4 (by decide) ?_
  obtain ⟨a4, r5, hw⟩ := hw
  refine z_invI hX hd r5 dX6_init_5 (hC 305 _ zm305 _ _ _ _ hw) q1455 q1456 rfl zh10 q1457 q139 zn305 rfl (Nat.le_of_ble_eq_true rfl) (st := []) rfl (zcs8 (Nat.le_of_ble_eq_true rfl)) rfl (zkV (fun s2 hw => ?_)) (zout hX hR hTb)
  refine z_aload_n hX dX6_init_8 rfl (i := 0) rfl ?_
  refine z_iload_n hX dX6_init_9 rfl (i := 1) rfl ?_
  obtain ⟨a8, f9, r10, g11, m12, l13, hw⟩ := hw
  refine z_putF hX zc11 (k := 6) dX6_init_10 (Nat.le_of_ble_eq_true rfl) q1461 rfl hnm rfl rfl rfl r10 g11 m12 l13 (z_nm (fun s6 e7 => ?_))
  have hw := hw s6 e7
  refine z_aload_n hX dX6_init_13 rfl (i := 0) rfl ?_
  refine z_iload_n hX dX6_init_14 rfl (i := 2) rfl ?_
  obtain ⟨a16, f17, r18, g19, m20, l21, hw⟩ := hw
  refine z_putF hX zc11 (k := 7) dX6_init_15 (Nat.le_of_ble_eq_true rfl) q1463 rfl hnm rfl rfl rfl r18 g19 m20 l21 (z_nm (fun s14 e15 => ?_))
  have hw := hw s14 e15
  exact z_return hX hR dX6_init_18 hw
abbrev cX7_init : ByteArray := prog_8_method_1_code
def yX7_init : MethodName := ⟨RX7, "<init>", "([I)V"⟩
def dkwX7_init_0 : List UInt8 := [42, 183, 0, 1, 42, 43, 181, 0, 7, 177]
abbrev dktX7_init_0 : List UInt8 := dkwX7_init_0 ++ []
theorem dksX7_init_0 : cX7_init.data.toList.drop 0 = dktX7_init_0 := by decide +kernel
theorem dX7_init_0 : decode cX7_init 0 = .ok (.aload_n 0, 1) := dk_42 (dk_at dksX7_init_0 0 rfl rfl)
theorem dX7_init_1 : decode cX7_init 1 = .ok (.invokespecial 1, 3) := dk_183 0 1 (dk_at dksX7_init_0 1 rfl rfl)
theorem dX7_init_4 : decode cX7_init 4 = .ok (.aload_n 0, 1) := dk_42 (dk_at dksX7_init_0 4 rfl rfl)
theorem dX7_init_5 : decode cX7_init 5 = .ok (.aload_n 1, 1) := dk_43 (dk_at dksX7_init_0 5 rfl rfl)
theorem dX7_init_6 : decode cX7_init 6 = .ok (.putfield 7, 3) := dk_181 0 7 (dk_at dksX7_init_0 6 rfl rfl)
theorem dX7_init_9 : decode cX7_init 9 = .ok (.return_, 1) := dk_177 (dk_at dksX7_init_0 9 rfl rfl)
/-- PackingDuel$Item.<init>([I)V -/
def zb446 (G : zPg) (C : zO) (args : List Value) (Q : zQ) (Y : zY) (σ : zS) : Prop := ∃ (a0 : Nat) (x1 : Option Nat), args = [.ref a0, va_rf x1] ∧ ((∃ a1, (some a0) = some a1 ∧ zput σ G.1 (some a0) 12 0 (va_rf x1) (fun s3 => Q none s3)))
set_option maxHeartbeats 4000000 in
theorem wk446 {l : Launch} {g : zG} {d : Nat} {C : zO} (hG : zGk g) (hC : zSound l g d C) {args : List Value} {Q : zQ} {Y : zY} {σ : zS} (hw : zb446 (zpg g) C args Q Y σ) : zMet l g (d + 1) (⟨"PackingDuel$Item", "<init>", "([I)V"⟩, Cond.code ⟨"PackingDuel$Item", "<init>", "([I)V"⟩ prog_8_method_1_code 2 (Option.none : Option FieldType)) args σ Q Y := by
  obtain ⟨a0, x1, rfl, hw⟩ := hw
  refine zof hG (by decide +kernel) [false, false] ⟨rfl, (zc_rf _), trivial⟩ (Nat.le_of_ble_eq_true rfl) (ls := [some (va_rf (some a0)), some (va_rf x1)]) rfl ?_
  intro X hX hR hTb hd1 hd2 hl hg hnm
  subst hl
  subst hg
  have hd : zDep X d := ⟨hd1, hd2⟩
  refine z_aload_n hX dX7_init_0 rfl (i := 0) rfl ?_
  obtain ⟨a1, r2, hw⟩ := hw
  refine z_oinit hX hd dX7_init_1 q1517 q191 q192 r2 rfl (zcs8 (Nat.le_of_ble_eq_true rfl)) ?_
  refine z_aload_n hX dX7_init_4 rfl (i := 0) rfl ?_
  refine z_aload_n hX dX7_init_5 rfl (i := 1) rfl ?_
  obtain ⟨a5, f6, r7, g8, m9, l10, hw⟩ := hw
  refine z_putF hX zc12 (k := 0) dX7_init_6 (Nat.le_of_ble_eq_true rfl) q1518 rfl hnm rfl (zn_a _ _) (zf_a _ _) r7 g8 m9 l10 (z_nm (fun s3 e4 => ?_))
  have hw := hw s3 e4
  exact z_return hX hR dX7_init_9 hw
abbrev cX7_with : ByteArray := prog_8_method_2_code
def yX7_with : MethodName := ⟨RX7, "with", "(II)LPackingDuel$Item;"⟩
def dkwX7_with_0 : List UInt8 := [42, 180, 0, 7, 182, 0, 13, 192, 0, 14, 78, 45, 27, 28, 79, 187, 0, 8, 89, 45, 183, 0, 18, 176]
abbrev dktX7_with_0 : List UInt8 := dkwX7_with_0 ++ []
theorem dksX7_with_0 : cX7_with.data.toList.drop 0 = dktX7_with_0 := by decide +kernel
theorem dX7_with_0 : decode cX7_with 0 = .ok (.aload_n 0, 1) := dk_42 (dk_at dksX7_with_0 0 rfl rfl)
theorem dX7_with_1 : decode cX7_with 1 = .ok (.getfield 7, 3) := dk_180 0 7 (dk_at dksX7_with_0 1 rfl rfl)
theorem dX7_with_4 : decode cX7_with 4 = .ok (.invokevirtual 13, 3) := dk_182 0 13 (dk_at dksX7_with_0 4 rfl rfl)
theorem dX7_with_7 : decode cX7_with 7 = .ok (.checkcast 14, 3) := dk_192 0 14 (dk_at dksX7_with_0 7 rfl rfl)
theorem dX7_with_10 : decode cX7_with 10 = .ok (.astore_n 3, 1) := dk_78 (dk_at dksX7_with_0 10 rfl rfl)
theorem dX7_with_11 : decode cX7_with 11 = .ok (.aload_n 3, 1) := dk_45 (dk_at dksX7_with_0 11 rfl rfl)
theorem dX7_with_12 : decode cX7_with 12 = .ok (.iload_n 1, 1) := dk_27 (dk_at dksX7_with_0 12 rfl rfl)
theorem dX7_with_13 : decode cX7_with 13 = .ok (.iload_n 2, 1) := dk_28 (dk_at dksX7_with_0 13 rfl rfl)
theorem dX7_with_14 : decode cX7_with 14 = .ok (.iastore, 1) := dk_79 (dk_at dksX7_with_0 14 rfl rfl)
theorem dX7_with_15 : decode cX7_with 15 = .ok (.new 8, 3) := dk_187 0 8 (dk_at dksX7_with_0 15 rfl rfl)
theorem dX7_with_18 : decode cX7_with 18 = .ok (.dup, 1) := dk_89 (dk_at dksX7_with_0 18 rfl rfl)
theorem dX7_with_19 : decode cX7_with 19 = .ok (.aload_n 3, 1) := dk_45 (dk_at dksX7_with_0 19 rfl rfl)
theorem dX7_with_20 : decode cX7_with 20 = .ok (.invokespecial 18, 3) := dk_183 0 18 (dk_at dksX7_with_0 20 rfl rfl)
theorem dX7_with_23 : decode cX7_with 23 = .ok (.areturn, 1) := dk_176 (dk_at dksX7_with_0 23 rfl rfl)
/-- PackingDuel$Item.with(II)LPackingDuel$Item; -/
def zb447 (G : zPg) (C : zO) (args : List Value) (Q : zQ) (Y : zY) (σ : zS) : Prop := ∃ (a0 : Nat) (x1 : Int32) (x2 : Int32), args = [.ref a0, .int x1, .int x2] ∧ (zgR σ (some a0) 12 0 (fun v1 => zclo σ G.1 0 v1 (fun s7 => (∃ a8 n9, (some σ.2.1) = some a8 ∧ G.1 ≤ a8 ∧ s7.1 a8 = some (.inl (0, n9)) ∧ zsI s7 G.1 0 (some σ.2.1) x1 x2 (fun s20 => znew s20 12 [va_rf none] 1 (fun s22 => (∃ a28, (some s20.2.1) = some a28 ∧ zcl C 446 [.ref a28, va_rf (some σ.2.1)] Y s22 (zqV (fun s26 => Q (some (va_rf (some s20.2.1))) s26)))))))))
set_option maxHeartbeats 4000000 in
theorem wk447 {l : Launch} {g : zG} {d : Nat} {C : zO} (hG : zGk g) (hC : zSound l g d C) {args : List Value} {Q : zQ} {Y : zY} {σ : zS} (hw : zb447 (zpg g) C args Q Y σ) : zMet l g (d + 1) (⟨"PackingDuel$Item", "with", "(II)LPackingDuel$Item;"⟩, Cond.code ⟨"PackingDuel$Item", "with", "(II)LPackingDuel$Item;"⟩ prog_8_method_2_code 4 (Option.some (FieldType.object "PackingDuel$Item"))) args σ Q Y := by
  obtain ⟨a0, x1, x2, rfl, hw⟩ := hw
  refine zof hG (by decide +kernel) [false, false, false] ⟨rfl, rfl, rfl, trivial⟩ (Nat.le_of_ble_eq_true rfl) (ls := [some (va_rf (some a0)), some (.int x1), some (.int x2), none]) rfl ?_
  intro X hX hR hTb hd1 hd2 hl hg hnm
  subst hl
  subst hg
  have hd : zDep X d := ⟨hd1, hd2⟩
  refine z_aload_n hX dX7_with_0 rfl (i := 0) rfl ?_
  obtain ⟨a2, f3, v1, r4, m5, e6, hw⟩ := hw
  refine z_get hX zc12 (k := 0) dX7_with_1 (Nat.le_of_ble_eq_true rfl) (zlk hX q1518) r4 m5 e6 ?_
  refine z_clo hX hd 0 (ad := "[I") dX7_with_4 q2079 q2080 q1157 q1158 q2081 q2082 rfl (fun _ _ h => h) hw rfl (zcs8 (Nat.le_of_ble_eq_true rfl)) (fun s7 hw => ?_)
  obtain ⟨a8, n9, r10, g11, m12, hw⟩ := hw
  refine z_castA hX 0 dX7_with_7 q2083 rfl (fun _ _ h => h) r10 g11 m12 ?_
  refine z_astore_n hX dX7_with_10 rfl (i := 3) (Nat.le_of_ble_eq_true rfl) rfl (ls2 := [some (va_rf (some a0)), some (.int x1), some (.int x2), some (va_rf (some σ.2.1))]) rfl ?_
  refine z_aload_n hX dX7_with_11 rfl (i := 3) rfl ?_
  refine z_iload_n hX dX7_with_12 rfl (i := 1) rfl ?_
  refine z_iload_n hX dX7_with_13 rfl (i := 2) rfl ?_
  obtain ⟨a13, n14, f15, r16, g17, m18, i19, hw⟩ := hw
  refine z_iast hX dX7_with_14 r16 g17 m18 i19 (z_nm (fun s20 e21 => ?_))
  have hw := hw s20 e21
  refine z_new hX zc12 dX7_with_15 q2084 q1513 q158 (fs := [va_rf none]) (fun j hj => by have hj : j < 1 := hj; exact zdf12 j hj) hw.1 hw.2.1 (fun z23 => z_nm (fun s22 e24 => ?_))
  have hw := hw.2.2 z23 s22 e24
  refine z_dup hX dX7_with_18 (zc_rf _) ?_
  refine z_aload_n hX dX7_with_19 rfl (i := 3) rfl ?_
  obtain ⟨a28, r29, hw⟩ := hw
  refine z_invI hX hd r29 dX7_with_20 (hC 446 _ zm446 _ _ _ _ hw) q2085 q1515 rfl zh27 q1516 q158 zn446 rfl (Nat.le_of_ble_eq_true rfl) (st := [va_rf (some s20.2.1)]) rfl (zcs8 (Nat.le_of_ble_eq_true rfl)) rfl (zkV (fun s26 hw => ?_)) (zout hX hR hTb)
  exact z_areturn hX hR dX7_with_23 (Or.inl ⟨_, rfl⟩) hw
