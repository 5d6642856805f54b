set_option maxRecDepth 100000
abbrev cX1_init : ByteArray := prog_1_method_7_code
def yX1_init : MethodName := ⟨RX1, "<init>", "()V"⟩
def dkwX1_init_1 : List UInt8 := [181, 0, 53, 42, 17, 1, 244, 188, 8, 181, 0, 57, 42, 2, 181, 0, 61, 42, 18, 65, 181, 0, 67, 177]
abbrev dktX1_init_1 : List UInt8 := dkwX1_init_1 ++ []
def dkwX1_init_0 : List UInt8 := [42, 183, 0, 40, 42, 187, 0, 43, 89, 183, 0, 45, 181, 0, 46, 42, 187, 0, 50, 89, 183, 0, 52]
abbrev dktX1_init_0 : List UInt8 := dkwX1_init_0 ++ dktX1_init_1
theorem dksX1_init_0 : cX1_init.data.toList.drop 0 = dktX1_init_0 := by decide +kernel
theorem dksX1_init_1 : cX1_init.data.toList.drop 23 = dktX1_init_1 := dk_seg dksX1_init_0 23 rfl rfl
theorem dX1_init_0 : decode cX1_init 0 = .ok (.aload_n 0, 1) := dk_42 (dk_at dksX1_init_0 0 rfl rfl)
theorem dX1_init_1 : decode cX1_init 1 = .ok (.invokespecial 40, 3) := dk_183 0 40 (dk_at dksX1_init_0 1 rfl rfl)
theorem dX1_init_4 : decode cX1_init 4 = .ok (.aload_n 0, 1) := dk_42 (dk_at dksX1_init_0 4 rfl rfl)
theorem dX1_init_5 : decode cX1_init 5 = .ok (.new 43, 3) := dk_187 0 43 (dk_at dksX1_init_0 5 rfl rfl)
theorem dX1_init_8 : decode cX1_init 8 = .ok (.dup, 1) := dk_89 (dk_at dksX1_init_0 8 rfl rfl)
theorem dX1_init_9 : decode cX1_init 9 = .ok (.invokespecial 45, 3) := dk_183 0 45 (dk_at dksX1_init_0 9 rfl rfl)
theorem dX1_init_12 : decode cX1_init 12 = .ok (.putfield 46, 3) := dk_181 0 46 (dk_at dksX1_init_0 12 rfl rfl)
theorem dX1_init_15 : decode cX1_init 15 = .ok (.aload_n 0, 1) := dk_42 (dk_at dksX1_init_0 15 rfl rfl)
theorem dX1_init_16 : decode cX1_init 16 = .ok (.new 50, 3) := dk_187 0 50 (dk_at dksX1_init_0 16 rfl rfl)
theorem dX1_init_19 : decode cX1_init 19 = .ok (.dup, 1) := dk_89 (dk_at dksX1_init_0 19 rfl rfl)
theorem dX1_init_20 : decode cX1_init 20 = .ok (.invokespecial 52, 3) := dk_183 0 52 (dk_at dksX1_init_0 20 rfl rfl)
theorem dX1_init_23 : decode cX1_init 23 = .ok (.putfield 53, 3) := dk_181 0 53 (dk_at dksX1_init_1 0 rfl rfl)
theorem dX1_init_26 : decode cX1_init 26 = .ok (.aload_n 0, 1) := dk_42 (dk_at dksX1_init_1 3 rfl rfl)
theorem dX1_init_27 : decode cX1_init 27 = .ok (.sipush 500, 3) := dk_17 1 244 (dk_at dksX1_init_1 4 rfl rfl)
theorem dX1_init_30 : decode cX1_init 30 = .ok (.newarray .byte, 2) := dk_188_8 (dk_at dksX1_init_1 7 rfl rfl)
theorem dX1_init_32 : decode cX1_init 32 = .ok (.putfield 57, 3) := dk_181 0 57 (dk_at dksX1_init_1 9 rfl rfl)
theorem dX1_init_35 : decode cX1_init 35 = .ok (.aload_n 0, 1) := dk_42 (dk_at dksX1_init_1 12 rfl rfl)
theorem dX1_init_36 : decode cX1_init 36 = .ok (.iconst (-1), 1) := dk_2 (dk_at dksX1_init_1 13 rfl rfl)
theorem dX1_init_37 : decode cX1_init 37 = .ok (.putfield 61, 3) := dk_181 0 61 (dk_at dksX1_init_1 14 rfl rfl)
theorem dX1_init_40 : decode cX1_init 40 = .ok (.aload_n 0, 1) := dk_42 (dk_at dksX1_init_1 17 rfl rfl)
theorem dX1_init_41 : decode cX1_init 41 = .ok (.ldc 65, 2) := dk_18 65 (dk_at dksX1_init_1 18 rfl rfl)
theorem dX1_init_43 : decode cX1_init 43 = .ok (.putfield 67, 3) := dk_181 0 67 (dk_at dksX1_init_1 20 rfl rfl)
theorem dX1_init_46 : decode cX1_init 46 = .ok (.return_, 1) := dk_177 (dk_at dksX1_init_1 23 rfl rfl)
/-- PackingDuel.<init>()V -/
def zb22 (G : zPg) (C : zO) (args : List Value) (Q : zQ) (Y : zY) (σ : zS) : Prop := ∃ (a0 : Nat), args = [.ref a0] ∧ ((∃ a1, (some a0) = some a1 ∧ znew σ 1 [va_rf none, va_rf none, va_rf none, .int 0, .int 0, .int 0, .int 0, .int 0, .int 0, .int 0, .int 0, va_rf none, va_rf none, va_rf none, va_rf none] 15 (fun s3 => (∃ a9, (some σ.2.1) = some a9 ∧ zcl C 81 [.ref a9] Y s3 (zqV (fun s7 => zput s7 G.1 (some a0) 0 0 (va_rf (some σ.2.1)) (fun s11 => znew s11 3 [va_rf none, .int 0, .int 0] 3 (fun s19 => (∃ a25, (some s11.2.1) = some a25 ∧ zcl C 138 [.ref a25] Y s19 (zqV (fun s23 => zput s23 G.1 (some a0) 0 2 (va_rf (some s11.2.1)) (fun s27 => znewA s27 2 (500 : Int32) (.inl (fun _ => 0)) (fun s35 => zput s35 G.1 (some a0) 0 3 (va_rf (some s27.2.1)) (fun s38 => zput s38 G.1 (some a0) 0 5 (.int (-1 : Int32)) (fun s46 => zput s46 G.1 (some a0) 0 6 (va_rf (some (G.2 0))) (fun s54 => Q none s54))))))))))))))))
set_option maxHeartbeats 4000000 in
theorem wk22 {l : Launch} {g : zG} {d : Nat} {C : zO} (hG : zGk g) (hC : zSound l g d C) {args : List Value} {Q : zQ} {Y : zY} {σ : zS} (hw : zb22 (zpg g) C args Q Y σ) : zMet l g (d + 1) (⟨"PackingDuel", "<init>", "()V"⟩, Cond.code ⟨"PackingDuel", "<init>", "()V"⟩ prog_1_method_7_code 1 (Option.none : Option FieldType)) args σ Q Y := by
  obtain ⟨a0, rfl, hw⟩ := hw
  refine zof hG (by decide +kernel) [false] ⟨rfl, trivial⟩ (Nat.le_of_ble_eq_true rfl) (ls := [some (va_rf (some a0))]) rfl ?_
  intro X hX hR hTb hd1 hd2 hl hg hnm
  subst hl
  subst hg
  have hd : zDep X d := ⟨hd1, hd2⟩
  refine z_aload_n hX dX1_init_0 rfl (i := 0) rfl ?_
  obtain ⟨a1, r2, hw⟩ := hw
  refine z_oinit hX hd dX1_init_1 q190 q191 q192 r2 rfl (zcs8 (Nat.le_of_ble_eq_true rfl)) ?_
  refine z_aload_n hX dX1_init_4 rfl (i := 0) rfl ?_
  refine z_new hX zc1 dX1_init_5 q193 q194 q131 (fs := [va_rf none, va_rf none, va_rf none, .int 0, .int 0, .int 0, .int 0, .int 0, .int 0, .int 0, .int 0, va_rf none, va_rf none, va_rf none, va_rf none]) (fun j hj => by have hj : j < 15 := hj; exact zdf1 j hj) hw.1 hw.2.1 (fun z4 => z_nm (fun s3 e5 => ?_))
  have hw := hw.2.2 z4 s3 e5
  refine z_dup hX dX1_init_8 (zc_rf _) ?_
  obtain ⟨a9, r10, hw⟩ := hw
  refine z_invIN hX hd r10 dX1_init_9 (hC 81 _ zm81 _ _ _ _ hw) q195 q196 rfl zh2 q197 q131 zn81 rfl (Nat.le_of_ble_eq_true rfl) (st := [va_rf (some σ.2.1), va_rf (some a0)]) rfl (zcs8 (Nat.le_of_ble_eq_true rfl)) rfl (zkV (fun s7 hw => ?_)) (zout hX hR hTb)
  obtain ⟨a13, f14, r15, g16, m17, l18, hw⟩ := hw
  refine z_put hX zc0 (k := 0) dX1_init_12 (Nat.le_of_ble_eq_true rfl) (zlk hX q307) rfl (zn_o _ _) (zf_o _ _) r15 g16 m17 l18 (z_nm (fun s11 e12 => ?_))
  have hw := hw s11 e12
  refine z_aload_n hX dX1_init_15 rfl (i := 0) rfl ?_
  refine z_new hX zc3 dX1_init_16 q288 q289 q135 (fs := [va_rf none, .int 0, .int 0]) (fun j hj => by have hj : j < 3 := hj; exact zdf3 j hj) hw.1 hw.2.1 (fun z20 => z_nm (fun s19 e21 => ?_))
  have hw := hw.2.2 z20 s19 e21
  refine z_dup hX dX1_init_19 (zc_rf _) ?_
  obtain ⟨a25, r26, hw⟩ := hw
  refine z_invI hX hd r26 dX1_init_20 (hC 138 _ zm138 _ _ _ _ hw) q290 q291 rfl zh6 q292 q135 zn138 rfl (Nat.le_of_ble_eq_true rfl) (st := [va_rf (some s11.2.1), va_rf (some a0)]) rfl (zcs8 (Nat.le_of_ble_eq_true rfl)) rfl (zkV (fun s23 hw => ?_)) (zout hX hR hTb)
  obtain ⟨a29, f30, r31, g32, m33, l34, hw⟩ := hw
  refine z_putF hX zc0 (k := 2) dX1_init_23 (Nat.le_of_ble_eq_true rfl) q309 rfl hnm rfl (zn_o _ _) (zf_o _ _) r31 g32 m33 l34 (z_nm (fun s27 e28 => ?_))
  have hw := hw s27 e28
  refine z_aload_n hX dX1_init_26 rfl (i := 0) rfl ?_
  refine z_sipush hX (v := (500 : Int32)) dX1_init_27 (by decide) ?_
  refine z_newB hX dX1_init_30 q330 hw.1 hw.2.1 hw.2.2.1 hw.2.2.2.1 (fun z36 => z_nm (fun s35 e37 => ?_))
  have hw := hw.2.2.2.2 z36 s35 e37
  obtain ⟨a40, f41, r42, g43, m44, l45, hw⟩ := hw
  refine z_putF hX zc0 (k := 3) dX1_init_32 (Nat.le_of_ble_eq_true rfl) q311 rfl hnm rfl (zn_a _ _) (zf_a _ _) r42 g43 m44 l45 (z_nm (fun s38 e39 => ?_))
  have hw := hw s38 e39
  refine z_aload_n hX dX1_init_35 rfl (i := 0) rfl ?_
  refine z_iconst hX (v := (-1 : Int32)) dX1_init_36 (by decide) ?_
  obtain ⟨a48, f49, r50, g51, m52, l53, hw⟩ := hw
  refine z_put hX zc0 (k := 5) dX1_init_37 (Nat.le_of_ble_eq_true rfl) (zlk hX q313) rfl rfl rfl r50 g51 m52 l53 (z_nm (fun s46 e47 => ?_))
  have hw := hw s46 e47
  refine z_aload_n hX dX1_init_40 rfl (i := 0) rfl ?_
  refine z_ldcS hX (tx := "") (j := 0) dX1_init_41 (List.mem_of_getElem? (i := 0) rfl) ?_
  obtain ⟨a56, f57, r58, g59, m60, l61, hw⟩ := hw
  refine z_put hX zc0 (k := 6) dX1_init_43 (Nat.le_of_ble_eq_true rfl) (zlk hX q314) rfl (zn_o _ _) (zf_o _ _) r58 g59 m60 l61 (z_nm (fun s54 e55 => ?_))
  have hw := hw s54 e55
  exact z_return hX hR dX1_init_46 hw
abbrev cX1_feed : ByteArray := prog_1_method_8_code
def yX1_feed : MethodName := ⟨RX1, "feed", "(IIIII)I"⟩
def dkwX1_feed_2 : List UInt8 := [172]
abbrev dktX1_feed_2 : List UInt8 := dkwX1_feed_2 ++ []
def dkwX1_feed_1 : List UInt8 := [182, 0, 74, 42, 29, 182, 0, 74, 42, 21, 4, 182, 0, 74, 42, 21, 5, 182, 0, 74, 42, 180, 0, 71]
abbrev dktX1_feed_1 : List UInt8 := dkwX1_feed_1 ++ dktX1_feed_2
def dkwX1_feed_0 : List UInt8 := [42, 180, 0, 71, 16, 20, 96, 17, 1, 244, 164, 0, 5, 2, 172, 42, 27, 182, 0, 74, 42, 28]
abbrev dktX1_feed_0 : List UInt8 := dkwX1_feed_0 ++ dktX1_feed_1
theorem dksX1_feed_0 : cX1_feed.data.toList.drop 0 = dktX1_feed_0 := by decide +kernel
theorem dksX1_feed_1 : cX1_feed.data.toList.drop 22 = dktX1_feed_1 := dk_seg dksX1_feed_0 22 rfl rfl
theorem dksX1_feed_2 : cX1_feed.data.toList.drop 46 = dktX1_feed_2 := dk_seg dksX1_feed_1 24 rfl rfl
theorem dX1_feed_0 : decode cX1_feed 0 = .ok (.aload_n 0, 1) := dk_42 (dk_at dksX1_feed_0 0 rfl rfl)
theorem dX1_feed_1 : decode cX1_feed 1 = .ok (.getfield 71, 3) := dk_180 0 71 (dk_at dksX1_feed_0 1 rfl rfl)
theorem dX1_feed_4 : decode cX1_feed 4 = .ok (.bipush 20, 2) := dk_16 20 (dk_at dksX1_feed_0 4 rfl rfl)
theorem dX1_feed_6 : decode cX1_feed 6 = .ok (.iadd, 1) := dk_96 (dk_at dksX1_feed_0 6 rfl rfl)
theorem dX1_feed_7 : decode cX1_feed 7 = .ok (.sipush 500, 3) := dk_17 1 244 (dk_at dksX1_feed_0 7 rfl rfl)
theorem dX1_feed_10 : decode cX1_feed 10 = .ok (.if_icmp .le 5, 3) := dk_164 0 5 (dk_at dksX1_feed_0 10 rfl rfl)
theorem dX1_feed_13 : decode cX1_feed 13 = .ok (.iconst (-1), 1) := dk_2 (dk_at dksX1_feed_0 13 rfl rfl)
theorem dX1_feed_14 : decode cX1_feed 14 = .ok (.ireturn, 1) := dk_172 (dk_at dksX1_feed_0 14 rfl rfl)
theorem dX1_feed_15 : decode cX1_feed 15 = .ok (.aload_n 0, 1) := dk_42 (dk_at dksX1_feed_0 15 rfl rfl)
theorem dX1_feed_16 : decode cX1_feed 16 = .ok (.iload_n 1, 1) := dk_27 (dk_at dksX1_feed_0 16 rfl rfl)
theorem dX1_feed_17 : decode cX1_feed 17 = .ok (.invokevirtual 74, 3) := dk_182 0 74 (dk_at dksX1_feed_0 17 rfl rfl)
theorem dX1_feed_20 : decode cX1_feed 20 = .ok (.aload_n 0, 1) := dk_42 (dk_at dksX1_feed_0 20 rfl rfl)
theorem dX1_feed_21 : decode cX1_feed 21 = .ok (.iload_n 2, 1) := dk_28 (dk_at dksX1_feed_0 21 rfl rfl)
theorem dX1_feed_22 : decode cX1_feed 22 = .ok (.invokevirtual 74, 3) := dk_182 0 74 (dk_at dksX1_feed_1 0 rfl rfl)
theorem dX1_feed_25 : decode cX1_feed 25 = .ok (.aload_n 0, 1) := dk_42 (dk_at dksX1_feed_1 3 rfl rfl)
theorem dX1_feed_26 : decode cX1_feed 26 = .ok (.iload_n 3, 1) := dk_29 (dk_at dksX1_feed_1 4 rfl rfl)
theorem dX1_feed_27 : decode cX1_feed 27 = .ok (.invokevirtual 74, 3) := dk_182 0 74 (dk_at dksX1_feed_1 5 rfl rfl)
theorem dX1_feed_30 : decode cX1_feed 30 = .ok (.aload_n 0, 1) := dk_42 (dk_at dksX1_feed_1 8 rfl rfl)
theorem dX1_feed_31 : decode cX1_feed 31 = .ok (.iload 4, 2) := dk_21 4 (dk_at dksX1_feed_1 9 rfl rfl)
theorem dX1_feed_33 : decode cX1_feed 33 = .ok (.invokevirtual 74, 3) := dk_182 0 74 (dk_at dksX1_feed_1 11 rfl rfl)
theorem dX1_feed_36 : decode cX1_feed 36 = .ok (.aload_n 0, 1) := dk_42 (dk_at dksX1_feed_1 14 rfl rfl)
theorem dX1_feed_37 : decode cX1_feed 37 = .ok (.iload 5, 2) := dk_21 5 (dk_at dksX1_feed_1 15 rfl rfl)
theorem dX1_feed_39 : decode cX1_feed 39 = .ok (.invokevirtual 74, 3) := dk_182 0 74 (dk_at dksX1_feed_1 17 rfl rfl)
theorem dX1_feed_42 : decode cX1_feed 42 = .ok (.aload_n 0, 1) := dk_42 (dk_at dksX1_feed_1 20 rfl rfl)
theorem dX1_feed_43 : decode cX1_feed 43 = .ok (.getfield 71, 3) := dk_180 0 71 (dk_at dksX1_feed_1 21 rfl rfl)
theorem dX1_feed_46 : decode cX1_feed 46 = .ok (.ireturn, 1) := dk_172 (dk_at dksX1_feed_2 0 rfl rfl)
/-- PackingDuel.feed(IIIII)I -/
def zb23 (G : zPg) (C : zO) (args : List Value) (Q : zQ) (Y : zY) (σ : zS) : Prop := ∃ (a0 : Nat) (x1 : Int32) (x2 : Int32) (x3 : Int32) (x4 : Int32) (x5 : Int32), args = [.ref a0, .int x1, .int x2, .int x3, .int x4, .int x5] ∧ (zgI σ (some a0) 0 4 (fun v1 => (((v1 + (20 : Int32)) ≤ (500 : Int32)) → zrc σ (some a0) 0 (fun a11 => zcl C 24 [.ref a11, .int x1] Y σ (zqV (fun s9 => zrc s9 (some a0) 0 (fun a18 => zcl C 24 [.ref a18, .int x2] Y s9 (zqV (fun s16 => zrc s16 (some a0) 0 (fun a25 => zcl C 24 [.ref a25, .int x3] Y s16 (zqV (fun s23 => zrc s23 (some a0) 0 (fun a32 => zcl C 24 [.ref a32, .int x4] Y s23 (zqV (fun s30 => zrc s30 (some a0) 0 (fun a39 => zcl C 24 [.ref a39, .int x5] Y s30 (zqV (fun s37 => zgI s37 (some a0) 0 4 (fun v43 => Q (some (.int v43)) s37))))))))))))))))) ∧ ((¬ (v1 + (20 : Int32)) ≤ (500 : Int32)) → Q (some (.int (-1 : Int32))) σ)))
set_option maxHeartbeats 4000000 in
theorem wk23 {l : Launch} {g : zG} {d : Nat} {C : zO} (hG : zGk g) (hC : zSound l g d C) {args : List Value} {Q : zQ} {Y : zY} {σ : zS} (hw : zb23 (zpg g) C args Q Y σ) : zMet l g (d + 1) (⟨"PackingDuel", "feed", "(IIIII)I"⟩, Cond.code ⟨"PackingDuel", "feed", "(IIIII)I"⟩ prog_1_method_8_code 6 (Option.some FieldType.int)) args σ Q Y := by
  obtain ⟨a0, x1, x2, x3, x4, x5, rfl, hw⟩ := hw
  refine zof hG (by decide +kernel) [false, false, false, false, false, false] ⟨rfl, rfl, rfl, rfl, rfl, rfl, trivial⟩ (Nat.le_of_ble_eq_true rfl) (ls := [some (va_rf (some a0)), some (.int x1), some (.int x2), some (.int x3), some (.int x4), some (.int x5)]) rfl ?_
  intro X hX hR hTb hd1 hd2 hl hg hnm
  subst hl
  subst hg
  have hd : zDep X d := ⟨hd1, hd2⟩
  refine z_aload_n hX dX1_feed_0 rfl (i := 0) rfl ?_
  obtain ⟨a2, f3, v1, r4, m5, e6, hw⟩ := hw
  refine z_get hX zc0 (k := 4) dX1_feed_1 (Nat.le_of_ble_eq_true rfl) (zlk hX q312) r4 m5 e6 ?_
  refine z_bipush hX (v := (20 : Int32)) dX1_feed_4 (by decide) ?_
  refine z_iadd hX dX1_feed_6 ?_
  refine z_sipush hX (v := (500 : Int32)) dX1_feed_7 (by decide) ?_
  refine z_icmp_le hX dX1_feed_10 (tgt := 15) rfl (fun c7 => ?_) (fun c7 => ?_)
  · have hw := hw.1 c7
    refine z_aload_n hX dX1_feed_15 rfl (i := 0) rfl ?_
    refine z_iload_n hX dX1_feed_16 rfl (i := 1) rfl ?_
    obtain ⟨a11, f12, r13, m14, hw⟩ := hw
    refine z_invV hX hd r13 (ci := 0) rfl rfl m14 dX1_feed_17 (hC 24 _ zm24 _ _ _ _ hw) q335 q337 qs0 zh1 q338 q130 zn24 rfl (Nat.le_of_ble_eq_true rfl) (st := []) rfl (zcs8 (Nat.le_of_ble_eq_true rfl)) rfl (zkV (fun s9 hw => ?_)) (zout hX hR hTb)
    refine z_aload_n hX dX1_feed_20 rfl (i := 0) rfl ?_
    refine z_iload_n hX dX1_feed_21 rfl (i := 2) rfl ?_
    obtain ⟨a18, f19, r20, m21, hw⟩ := hw
    refine z_invV hX hd r20 (ci := 0) rfl rfl m21 dX1_feed_22 (hC 24 _ zm24 _ _ _ _ hw) q335 q337 qs0 zh1 q338 q130 zn24 rfl (Nat.le_of_ble_eq_true rfl) (st := []) rfl (zcs8 (Nat.le_of_ble_eq_true rfl)) rfl (zkV (fun s16 hw => ?_)) (zout hX hR hTb)
    refine z_aload_n hX dX1_feed_25 rfl (i := 0) rfl ?_
    refine z_iload_n hX dX1_feed_26 rfl (i := 3) rfl ?_
    obtain ⟨a25, f26, r27, m28, hw⟩ := hw
    refine z_invV hX hd r27 (ci := 0) rfl rfl m28 dX1_feed_27 (hC 24 _ zm24 _ _ _ _ hw) q335 q337 qs0 zh1 q338 q130 zn24 rfl (Nat.le_of_ble_eq_true rfl) (st := []) rfl (zcs8 (Nat.le_of_ble_eq_true rfl)) rfl (zkV (fun s23 hw => ?_)) (zout hX hR hTb)
    refine z_aload_n hX dX1_feed_30 rfl (i := 0) rfl ?_
    refine z_iload hX dX1_feed_31 (i := 4) rfl ?_
    obtain ⟨a32, f33, r34, m35, hw⟩ := hw
    refine z_invV hX hd r34 (ci := 0) rfl rfl m35 dX1_feed_33 (hC 24 _ zm24 _ _ _ _ hw) q335 q337 qs0 zh1 q338 q130 zn24 rfl (Nat.le_of_ble_eq_true rfl) (st := []) rfl (zcs8 (Nat.le_of_ble_eq_true rfl)) rfl (zkV (fun s30 hw => ?_)) (zout hX hR hTb)
    refine z_aload_n hX dX1_feed_36 rfl (i := 0) rfl ?_
    refine z_iload hX dX1_feed_37 (i := 5) rfl ?_
    obtain ⟨a39, f40, r41, m42, hw⟩ := hw
    refine z_invV hX hd r41 (ci := 0) rfl rfl m42 dX1_feed_39 (hC 24 _ zm24 _ _ _ _ hw) q335 q337 qs0 zh1 q338 q130 zn24 rfl (Nat.le_of_ble_eq_true rfl) (st := []) rfl (zcs8 (Nat.le_of_ble_eq_true rfl)) rfl (zkV (fun s37 hw => ?_)) (zout hX hR hTb)
    refine z_aload_n hX dX1_feed_42 rfl (i := 0) rfl ?_
    obtain ⟨a44, f45, v43, r46, m47, e48, hw⟩ := hw
    refine z_get hX zc0 (k := 4) dX1_feed_43 (Nat.le_of_ble_eq_true rfl) (zlk hX q312) r46 m47 e48 ?_
    exact z_ireturn hX hR dX1_feed_46 rfl hw
  · have hw := hw.2 c7
    refine z_iconst hX (v := (-1 : Int32)) dX1_feed_13 (by decide) ?_
    exact z_ireturn hX hR dX1_feed_14 rfl hw
abbrev cX1_append : ByteArray := prog_1_method_9_code
def yX1_append : MethodName := ⟨RX1, "append", "(I)V"⟩
def dkwX1_append_1 : List UInt8 := [180, 0, 71, 4, 96, 181, 0, 71, 132, 2, 248, 167, 255, 226, 177]
abbrev dktX1_append_1 : List UInt8 := dkwX1_append_1 ++ []
def dkwX1_append_0 : List UInt8 := [16, 24, 61, 28, 155, 0, 32, 42, 180, 0, 57, 42, 180, 0, 71, 27, 28, 122, 145, 84, 42, 89]
abbrev dktX1_append_0 : List UInt8 := dkwX1_append_0 ++ dktX1_append_1
theorem dksX1_append_0 : cX1_append.data.toList.drop 0 = dktX1_append_0 := by decide +kernel
theorem dksX1_append_1 : cX1_append.data.toList.drop 22 = dktX1_append_1 := dk_seg dksX1_append_0 22 rfl rfl
theorem dX1_append_0 : decode cX1_append 0 = .ok (.bipush 24, 2) := dk_16 24 (dk_at dksX1_append_0 0 rfl rfl)
theorem dX1_append_2 : decode cX1_append 2 = .ok (.istore_n 2, 1) := dk_61 (dk_at dksX1_append_0 2 rfl rfl)
theorem dX1_append_3 : decode cX1_append 3 = .ok (.iload_n 2, 1) := dk_28 (dk_at dksX1_append_0 3 rfl rfl)
theorem dX1_append_4 : decode cX1_append 4 = .ok (.ifCond .lt 32, 3) := dk_155 0 32 (dk_at dksX1_append_0 4 rfl rfl)
theorem dX1_append_7 : decode cX1_append 7 = .ok (.aload_n 0, 1) := dk_42 (dk_at dksX1_append_0 7 rfl rfl)
theorem dX1_append_8 : decode cX1_append 8 = .ok (.getfield 57, 3) := dk_180 0 57 (dk_at dksX1_append_0 8 rfl rfl)
theorem dX1_append_11 : decode cX1_append 11 = .ok (.aload_n 0, 1) := dk_42 (dk_at dksX1_append_0 11 rfl rfl)
theorem dX1_append_12 : decode cX1_append 12 = .ok (.getfield 71, 3) := dk_180 0 71 (dk_at dksX1_append_0 12 rfl rfl)
theorem dX1_append_15 : decode cX1_append 15 = .ok (.iload_n 1, 1) := dk_27 (dk_at dksX1_append_0 15 rfl rfl)
theorem dX1_append_16 : decode cX1_append 16 = .ok (.iload_n 2, 1) := dk_28 (dk_at dksX1_append_0 16 rfl rfl)
theorem dX1_append_17 : decode cX1_append 17 = .ok (.ishr, 1) := dk_122 (dk_at dksX1_append_0 17 rfl rfl)
theorem dX1_append_18 : decode cX1_append 18 = .ok (.i2b, 1) := dk_145 (dk_at dksX1_append_0 18 rfl rfl)
theorem dX1_append_19 : decode cX1_append 19 = .ok (.bastore, 1) := dk_84 (dk_at dksX1_append_0 19 rfl rfl)
theorem dX1_append_20 : decode cX1_append 20 = .ok (.aload_n 0, 1) := dk_42 (dk_at dksX1_append_0 20 rfl rfl)
theorem dX1_append_21 : decode cX1_append 21 = .ok (.dup, 1) := dk_89 (dk_at dksX1_append_0 21 rfl rfl)
theorem dX1_append_22 : decode cX1_append 22 = .ok (.getfield 71, 3) := dk_180 0 71 (dk_at dksX1_append_1 0 rfl rfl)
theorem dX1_append_25 : decode cX1_append 25 = .ok (.iconst 1, 1) := dk_4 (dk_at dksX1_append_1 3 rfl rfl)
theorem dX1_append_26 : decode cX1_append 26 = .ok (.iadd, 1) := dk_96 (dk_at dksX1_append_1 4 rfl rfl)
theorem dX1_append_27 : decode cX1_append 27 = .ok (.putfield 71, 3) := dk_181 0 71 (dk_at dksX1_append_1 5 rfl rfl)
theorem dX1_append_30 : decode cX1_append 30 = .ok (.iinc 2 (-8), 3) := dk_132 2 248 (dk_at dksX1_append_1 8 rfl rfl)
theorem dX1_append_33 : decode cX1_append 33 = .ok (.goto (-30), 3) := dk_167 255 226 (dk_at dksX1_append_1 11 rfl rfl)
theorem dX1_append_36 : decode cX1_append 36 = .ok (.return_, 1) := dk_177 (dk_at dksX1_append_1 14 rfl rfl)
/-- PackingDuel.append(I)V -/
def zb24 (G : zPg) (C : zO) (args : List Value) (Q : zQ) (Y : zY) (σ : zS) : Prop := ∃ (a0 : Nat) (x1 : Int32), args = [.ref a0, .int x1] ∧ (∃ n, zIt (fun _ _ => False) (fun rec3 (p1 : Int32) (s2 : zS) => ((p1 < 0) → Q none s2) ∧ ((¬ p1 < 0) → zgR s2 (some a0) 0 3 (fun v5 => zgI s2 (some a0) 0 4 (fun v11 => zsI s2 G.1 2 v5 v11 (vp_nar .byte ((x1 >>> (p1 &&& 31)).toInt8.toInt32)) (fun s24 => zgI s24 (some a0) 0 4 (fun v26 => zput s24 G.1 (some a0) 0 4 (.int (v26 + (1 : Int32))) (fun s32 => (∀ v40 : Int32, v40 = p1 + (-8 : Int32) → rec3 v40 s32)))))))) n (24 : Int32) σ)
set_option maxHeartbeats 4000000 in
theorem wk24 {l : Launch} {g : zG} {d : Nat} {C : zO} (hG : zGk g) (hC : zSound l g d C) {args : List Value} {Q : zQ} {Y : zY} {σ : zS} (hw : zb24 (zpg g) C args Q Y σ) : zMet l g (d + 1) (⟨"PackingDuel", "append", "(I)V"⟩, Cond.code ⟨"PackingDuel", "append", "(I)V"⟩ prog_1_method_9_code 3 (Option.none : Option FieldType)) args σ Q Y := by
  obtain ⟨a0, x1, rfl, hw⟩ := hw
  refine zof hG (by decide +kernel) [false, false] ⟨rfl, rfl, trivial⟩ (Nat.le_of_ble_eq_true rfl) (ls := [some (va_rf (some a0)), some (.int x1), none]) rfl ?_
  intro X hX hR hTb hd1 hd2 hl hg hnm
  subst hl
  subst hg
  have hd : zDep X d := ⟨hd1, hd2⟩
  refine z_bipush hX (v := (24 : Int32)) dX1_append_0 (by decide) ?_
  refine z_istore_n hX dX1_append_2 rfl (i := 2) (Nat.le_of_ble_eq_true rfl) rfl (ls2 := [some (va_rf (some a0)), some (.int x1), some (.int (24 : Int32))]) rfl ?_
  obtain ⟨n42, hw⟩ := hw
  refine zIt_w (P := fun (j : Int32 → zS → Prop) => ∀ (p1 : Int32) (s2 : zS), j p1 s2 → zW X s2 3 [some (va_rf (some a0)), some (.int x1), some (.int p1)] []) (fun _ _ h => h.elim) (fun rec3 hrec3 p1 s2 hw => ?_) n42 _ _ hw
  refine z_iload_n hX dX1_append_3 rfl (i := 2) rfl ?_
  refine z_if_lt hX dX1_append_4 (tgt := 36) rfl (fun c4 => ?_) (fun c4 => ?_)
  · have hw := hw.1 c4
    exact z_return hX hR dX1_append_36 hw
  · have hw := hw.2 c4
    refine z_aload_n hX dX1_append_7 rfl (i := 0) rfl ?_
    obtain ⟨a6, f7, v5, r8, m9, e10, hw⟩ := hw
    refine z_get hX zc0 (k := 3) dX1_append_8 (Nat.le_of_ble_eq_true rfl) (zlk hX q311) r8 m9 e10 ?_
    refine z_aload_n hX dX1_append_11 rfl (i := 0) rfl ?_
    obtain ⟨a12, f13, v11, r14, m15, e16, hw⟩ := hw
    refine z_get hX zc0 (k := 4) dX1_append_12 (Nat.le_of_ble_eq_true rfl) (zlk hX q312) r14 m15 e16 ?_
    refine z_iload_n hX dX1_append_15 rfl (i := 1) rfl ?_
    refine z_iload_n hX dX1_append_16 rfl (i := 2) rfl ?_
    refine z_ishr hX dX1_append_17 ?_
    refine z_i2b hX dX1_append_18 ?_
    obtain ⟨a17, n18, f19, r20, g21, m22, i23, hw⟩ := hw
    refine z_bast hX dX1_append_19 r20 g21 m22 i23 (z_nm (fun s24 e25 => ?_))
    have hw := hw s24 e25
    refine z_aload_n hX dX1_append_20 rfl (i := 0) rfl ?_
    refine z_dup hX dX1_append_21 (zc_rf _) ?_
    obtain ⟨a27, f28, v26, r29, m30, e31, hw⟩ := hw
    refine z_get hX zc0 (k := 4) dX1_append_22 (Nat.le_of_ble_eq_true rfl) (zlk hX q312) r29 m30 e31 ?_
    refine z_iconst hX (v := (1 : Int32)) dX1_append_25 (by decide) ?_
    refine z_iadd hX dX1_append_26 ?_
    obtain ⟨a34, f35, r36, g37, m38, l39, hw⟩ := hw
    refine z_put hX zc0 (k := 4) dX1_append_27 (Nat.le_of_ble_eq_true rfl) (zlk hX q312) rfl rfl rfl r36 g37 m38 l39 (z_nm (fun s32 e33 => ?_))
    have hw := hw s32 e33
    obtain ⟨v40, e41⟩ : ∃ y : Int32, y = p1 + (-8 : Int32) := ⟨_, rfl⟩
    refine z_iinc hX dX1_append_30 (i := 2) (v := v40) rfl (by rw [e41]; rfl) (Nat.le_of_ble_eq_true rfl) rfl (ls2 := [some (va_rf (some a0)), some (.int x1), some (.int v40)]) rfl ?_
    have hw := hw v40 e41
    refine z_goto hX dX1_append_33 (tgt := 3) rfl ?_
    exact hrec3 _ _ hw
abbrev cX1_errorPosition : ByteArray := prog_1_method_13_code
def yX1_errorPosition : MethodName := ⟨RX1, "errorPosition", "()I"⟩
theorem dX1_errorPosition_0 : decode cX1_errorPosition 0 = .ok (.aload_n 0, 1) := by decide +kernel
theorem dX1_errorPosition_1 : decode cX1_errorPosition 1 = .ok (.getfield 61, 3) := by decide +kernel
theorem dX1_errorPosition_4 : decode cX1_errorPosition 4 = .ok (.ireturn, 1) := by decide +kernel
/-- PackingDuel.errorPosition()I -/
def zb25 (G : zPg) (C : zO) (args : List Value) (Q : zQ) (Y : zY) (σ : zS) : Prop := ∃ (a0 : Nat), args = [.ref a0] ∧ (zgI σ (some a0) 0 5 (fun v1 => Q (some (.int v1)) σ))
set_option maxHeartbeats 4000000 in
theorem wk25 {l : Launch} {g : zG} {d : Nat} {C : zO} (hG : zGk g) (hC : zSound l g d C) {args : List Value} {Q : zQ} {Y : zY} {σ : zS} (hw : zb25 (zpg g) C args Q Y σ) : zMet l g (d + 1) (⟨"PackingDuel", "errorPosition", "()I"⟩, Cond.code ⟨"PackingDuel", "errorPosition", "()I"⟩ prog_1_method_13_code 1 (Option.some FieldType.int)) args σ Q Y := by
  obtain ⟨a0, rfl, hw⟩ := hw
  refine zof hG (by decide +kernel) [false] ⟨rfl, trivial⟩ (Nat.le_of_ble_eq_true rfl) (ls := [some (va_rf (some a0))]) rfl ?_
  intro X hX hR hTb hd1 hd2 hl hg hnm
  subst hl
  subst hg
  have hd : zDep X d := ⟨hd1, hd2⟩
  refine z_aload_n hX dX1_errorPosition_0 rfl (i := 0) rfl ?_
  obtain ⟨a2, f3, v1, r4, m5, e6, hw⟩ := hw
  refine z_get hX zc0 (k := 5) dX1_errorPosition_1 (Nat.le_of_ble_eq_true rfl) (zlk hX q313) r4 m5 e6 ?_
  exact z_ireturn hX hR dX1_errorPosition_4 rfl hw
abbrev cX1_plansWith : ByteArray := prog_1_method_22_code
def yX1_plansWith : MethodName := ⟨RX1, "plansWith", "(I)I"⟩
def dkwX1_plansWith_0 : List UInt8 := [42, 180, 0, 46, 27, 42, 180, 0, 46, 180, 0, 139, 182, 0, 196, 172]
abbrev dktX1_plansWith_0 : List UInt8 := dkwX1_plansWith_0 ++ []
theorem dksX1_plansWith_0 : cX1_plansWith.data.toList.drop 0 = dktX1_plansWith_0 := by decide +kernel
theorem dX1_plansWith_0 : decode cX1_plansWith 0 = .ok (.aload_n 0, 1) := dk_42 (dk_at dksX1_plansWith_0 0 rfl rfl)
theorem dX1_plansWith_1 : decode cX1_plansWith 1 = .ok (.getfield 46, 3) := dk_180 0 46 (dk_at dksX1_plansWith_0 1 rfl rfl)
theorem dX1_plansWith_4 : decode cX1_plansWith 4 = .ok (.iload_n 1, 1) := dk_27 (dk_at dksX1_plansWith_0 4 rfl rfl)
theorem dX1_plansWith_5 : decode cX1_plansWith 5 = .ok (.aload_n 0, 1) := dk_42 (dk_at dksX1_plansWith_0 5 rfl rfl)
theorem dX1_plansWith_6 : decode cX1_plansWith 6 = .ok (.getfield 46, 3) := dk_180 0 46 (dk_at dksX1_plansWith_0 6 rfl rfl)
theorem dX1_plansWith_9 : decode cX1_plansWith 9 = .ok (.getfield 139, 3) := dk_180 0 139 (dk_at dksX1_plansWith_0 9 rfl rfl)
theorem dX1_plansWith_12 : decode cX1_plansWith 12 = .ok (.invokevirtual 196, 3) := dk_182 0 196 (dk_at dksX1_plansWith_0 12 rfl rfl)
theorem dX1_plansWith_15 : decode cX1_plansWith 15 = .ok (.ireturn, 1) := dk_172 (dk_at dksX1_plansWith_0 15 rfl rfl)
/-- PackingDuel.plansWith(I)I -/
def zb26 (G : zPg) (C : zO) (args : List Value) (Q : zQ) (Y : zY) (σ : zS) : Prop := ∃ (a0 : Nat) (x1 : Int32), args = [.ref a0, .int x1] ∧ (zgR σ (some a0) 0 0 (fun v1 => zgR σ (some a0) 0 0 (fun v7 => zgI σ v7 1 4 (fun v13 => zrc σ v1 1 (fun a22 => zcl C 82 [.ref a22, .int x1, .int v13] Y σ (zqI (fun v19 s20 => Q (some (.int v19)) s20)))))))
set_option maxHeartbeats 4000000 in
theorem wk26 {l : Launch} {g : zG} {d : Nat} {C : zO} (hG : zGk g) (hC : zSound l g d C) {args : List Value} {Q : zQ} {Y : zY} {σ : zS} (hw : zb26 (zpg g) C args Q Y σ) : zMet l g (d + 1) (⟨"PackingDuel", "plansWith", "(I)I"⟩, Cond.code ⟨"PackingDuel", "plansWith", "(I)I"⟩ prog_1_method_22_code 2 (Option.some FieldType.int)) args σ Q Y := by
  obtain ⟨a0, x1, rfl, hw⟩ := hw
  refine zof hG (by decide +kernel) [false, false] ⟨rfl, rfl, trivial⟩ (Nat.le_of_ble_eq_true rfl) (ls := [some (va_rf (some a0)), some (.int x1)]) rfl ?_
  intro X hX hR hTb hd1 hd2 hl hg hnm
  subst hl
  subst hg
  have hd : zDep X d := ⟨hd1, hd2⟩
  refine z_aload_n hX dX1_plansWith_0 rfl (i := 0) rfl ?_
  obtain ⟨a2, f3, v1, r4, m5, e6, hw⟩ := hw
  refine z_get hX zc0 (k := 0) dX1_plansWith_1 (Nat.le_of_ble_eq_true rfl) (zlk hX q307) r4 m5 e6 ?_
  refine z_iload_n hX dX1_plansWith_4 rfl (i := 1) rfl ?_
  refine z_aload_n hX dX1_plansWith_5 rfl (i := 0) rfl ?_
  obtain ⟨a8, f9, v7, r10, m11, e12, hw⟩ := hw
  refine z_get hX zc0 (k := 0) dX1_plansWith_6 (Nat.le_of_ble_eq_true rfl) (zlk hX q307) r10 m11 e12 ?_
  obtain ⟨a14, f15, v13, r16, m17, e18, hw⟩ := hw
  refine z_get hX zc1 (k := 4) dX1_plansWith_9 (Nat.le_of_ble_eq_true rfl) (zlkN hX "PackingDuel" q240) r16 m17 e18 ?_
  obtain ⟨a22, f23, r24, m25, hw⟩ := hw
  refine z_invV hX hd r24 (ci := 1) rfl rfl m25 dX1_plansWith_12 (hC 82 _ zm82 _ _ _ _ hw) q347 q348 q349 zh2 q350 q131 zn82 rfl (Nat.le_of_ble_eq_true rfl) (st := []) rfl (zcs8 (Nat.le_of_ble_eq_true rfl)) rfl (zkI (fun v19 s20 hw => ?_)) (zout hX hR hTb)
  exact z_ireturn hX hR dX1_plansWith_15 rfl hw
abbrev cX1_asInt : ByteArray := prog_1_method_2_code
def yX1_asInt : MethodName := ⟨RX1, "asInt", "(Z)I"⟩
def dkwX1_asInt_0 : List UInt8 := [26, 153, 0, 7, 4, 167, 0, 4, 3, 172]
abbrev dktX1_asInt_0 : List UInt8 := dkwX1_asInt_0 ++ []
theorem dksX1_asInt_0 : cX1_asInt.data.toList.drop 0 = dktX1_asInt_0 := by decide +kernel
theorem dX1_asInt_0 : decode cX1_asInt 0 = .ok (.iload_n 0, 1) := dk_26 (dk_at dksX1_asInt_0 0 rfl rfl)
theorem dX1_asInt_1 : decode cX1_asInt 1 = .ok (.ifCond .eq 7, 3) := dk_153 0 7 (dk_at dksX1_asInt_0 1 rfl rfl)
theorem dX1_asInt_4 : decode cX1_asInt 4 = .ok (.iconst 1, 1) := dk_4 (dk_at dksX1_asInt_0 4 rfl rfl)
theorem dX1_asInt_5 : decode cX1_asInt 5 = .ok (.goto 4, 3) := dk_167 0 4 (dk_at dksX1_asInt_0 5 rfl rfl)
theorem dX1_asInt_8 : decode cX1_asInt 8 = .ok (.iconst 0, 1) := dk_3 (dk_at dksX1_asInt_0 8 rfl rfl)
theorem dX1_asInt_9 : decode cX1_asInt 9 = .ok (.ireturn, 1) := dk_172 (dk_at dksX1_asInt_0 9 rfl rfl)
/-- PackingDuel.asInt(Z)I -/
def zb27 (G : zPg) (C : zO) (args : List Value) (Q : zQ) (Y : zY) (σ : zS) : Prop := ∃ (x1 : Int32), args = [.int x1] ∧ (zJ (fun (p1 : Int32) (s2 : zS) => Q (some (.int p1)) s2) (fun (j3 : Int32 → zS → Prop) => ((x1 = 0) → j3 (0 : Int32) σ) ∧ ((¬ x1 = 0) → j3 (1 : Int32) σ)))
set_option maxHeartbeats 4000000 in
theorem wk27 {l : Launch} {g : zG} {d : Nat} {C : zO} (hG : zGk g) (hC : zSound l g d C) {args : List Value} {Q : zQ} {Y : zY} {σ : zS} (hw : zb27 (zpg g) C args Q Y σ) : zMet l g (d + 1) (⟨"PackingDuel", "asInt", "(Z)I"⟩, Cond.code ⟨"PackingDuel", "asInt", "(Z)I"⟩ prog_1_method_2_code 1 (Option.some FieldType.int)) args σ Q Y := by
  obtain ⟨x1, rfl, hw⟩ := hw
  refine zof hG (by decide +kernel) [false] ⟨rfl, trivial⟩ (Nat.le_of_ble_eq_true rfl) (ls := [some (.int x1)]) rfl ?_
  intro X hX hR hTb hd1 hd2 hl hg hnm
  subst hl
  subst hg
  have hd : zDep X d := ⟨hd1, hd2⟩
  refine z_iload_n hX dX1_asInt_0 rfl (i := 0) rfl ?_
  refine zJ_w (P := fun (j : Int32 → zS → Prop) => ∀ (p1 : Int32) (s2 : zS), j p1 s2 → zW X s2 9 [none] [.int p1]) hw (fun p1 s2 hw => ?_) (fun j3 hj3 hw => ?_)
  · exact z_ireturn hX hR dX1_asInt_9 rfl hw
  · refine z_if_eq hX dX1_asInt_1 (tgt := 8) rfl (fun c4 => ?_) (fun c4 => ?_)
    · have hw := hw.1 c4
      refine z_iconst hX (v := (0 : Int32)) dX1_asInt_8 (by decide) ?_
      refine z_sub (ls' := [none]) (zsN (zs0)) ?_
      exact hj3 _ _ hw
    · have hw := hw.2 c4
      refine z_iconst hX (v := (1 : Int32)) dX1_asInt_4 (by decide) ?_
      refine z_goto hX dX1_asInt_5 (tgt := 9) rfl ?_
      refine z_sub (ls' := [none]) (zsN (zs0)) ?_
      exact hj3 _ _ hw
abbrev cX1_leastThreshold : ByteArray := prog_1_method_23_code
def yX1_leastThreshold : MethodName := ⟨RX1, "leastThreshold", "(I)I"⟩
def dkwX1_leastThreshold_1 : List UInt8 := [132, 2, 1, 167, 255, 232, 2, 172]
abbrev dktX1_leastThreshold_1 : List UInt8 := dkwX1_leastThreshold_1 ++ []
def dkwX1_leastThreshold_0 : List UInt8 := [3, 61, 28, 17, 0, 200, 163, 0, 23, 42, 180, 0, 46, 27, 28, 182, 0, 196, 158, 0, 5, 28, 172]
abbrev dktX1_leastThreshold_0 : List UInt8 := dkwX1_leastThreshold_0 ++ dktX1_leastThreshold_1
theorem dksX1_leastThreshold_0 : cX1_leastThreshold.data.toList.drop 0 = dktX1_leastThreshold_0 := by decide +kernel
theorem dksX1_leastThreshold_1 : cX1_leastThreshold.data.toList.drop 23 = dktX1_leastThreshold_1 := dk_seg dksX1_leastThreshold_0 23 rfl rfl
theorem dX1_leastThreshold_0 : decode cX1_leastThreshold 0 = .ok (.iconst 0, 1) := dk_3 (dk_at dksX1_leastThreshold_0 0 rfl rfl)
theorem dX1_leastThreshold_1 : decode cX1_leastThreshold 1 = .ok (.istore_n 2, 1) := dk_61 (dk_at dksX1_leastThreshold_0 1 rfl rfl)
theorem dX1_leastThreshold_2 : decode cX1_leastThreshold 2 = .ok (.iload_n 2, 1) := dk_28 (dk_at dksX1_leastThreshold_0 2 rfl rfl)
theorem dX1_leastThreshold_3 : decode cX1_leastThreshold 3 = .ok (.sipush 200, 3) := dk_17 0 200 (dk_at dksX1_leastThreshold_0 3 rfl rfl)
theorem dX1_leastThreshold_6 : decode cX1_leastThreshold 6 = .ok (.if_icmp .gt 23, 3) := dk_163 0 23 (dk_at dksX1_leastThreshold_0 6 rfl rfl)
theorem dX1_leastThreshold_9 : decode cX1_leastThreshold 9 = .ok (.aload_n 0, 1) := dk_42 (dk_at dksX1_leastThreshold_0 9 rfl rfl)
theorem dX1_leastThreshold_10 : decode cX1_leastThreshold 10 = .ok (.getfield 46, 3) := dk_180 0 46 (dk_at dksX1_leastThreshold_0 10 rfl rfl)
theorem dX1_leastThreshold_13 : decode cX1_leastThreshold 13 = .ok (.iload_n 1, 1) := dk_27 (dk_at dksX1_leastThreshold_0 13 rfl rfl)
theorem dX1_leastThreshold_14 : decode cX1_leastThreshold 14 = .ok (.iload_n 2, 1) := dk_28 (dk_at dksX1_leastThreshold_0 14 rfl rfl)
theorem dX1_leastThreshold_15 : decode cX1_leastThreshold 15 = .ok (.invokevirtual 196, 3) := dk_182 0 196 (dk_at dksX1_leastThreshold_0 15 rfl rfl)
theorem dX1_leastThreshold_18 : decode cX1_leastThreshold 18 = .ok (.ifCond .le 5, 3) := dk_158 0 5 (dk_at dksX1_leastThreshold_0 18 rfl rfl)
theorem dX1_leastThreshold_21 : decode cX1_leastThreshold 21 = .ok (.iload_n 2, 1) := dk_28 (dk_at dksX1_leastThreshold_0 21 rfl rfl)
theorem dX1_leastThreshold_22 : decode cX1_leastThreshold 22 = .ok (.ireturn, 1) := dk_172 (dk_at dksX1_leastThreshold_0 22 rfl rfl)
theorem dX1_leastThreshold_23 : decode cX1_leastThreshold 23 = .ok (.iinc 2 1, 3) := dk_132 2 1 (dk_at dksX1_leastThreshold_1 0 rfl rfl)
theorem dX1_leastThreshold_26 : decode cX1_leastThreshold 26 = .ok (.goto (-24), 3) := dk_167 255 232 (dk_at dksX1_leastThreshold_1 3 rfl rfl)
theorem dX1_leastThreshold_29 : decode cX1_leastThreshold 29 = .ok (.iconst (-1), 1) := dk_2 (dk_at dksX1_leastThreshold_1 6 rfl rfl)
theorem dX1_leastThreshold_30 : decode cX1_leastThreshold 30 = .ok (.ireturn, 1) := dk_172 (dk_at dksX1_leastThreshold_1 7 rfl rfl)
/-- PackingDuel.leastThreshold(I)I -/
def zb28 (G : zPg) (C : zO) (args : List Value) (Q : zQ) (Y : zY) (σ : zS) : Prop := ∃ (a0 : Nat) (x1 : Int32), args = [.ref a0, .int x1] ∧ (∃ n, zIt (fun _ _ => False) (fun rec3 (p1 : Int32) (s2 : zS) => (((200 : Int32) < p1) → Q (some (.int (-1 : Int32))) s2) ∧ ((¬ (200 : Int32) < p1) → zgR s2 (some a0) 0 0 (fun v5 => zrc s2 v5 1 (fun a14 => zcl C 82 [.ref a14, .int x1, .int p1] Y s2 (zqI (fun v11 s12 => ((v11 ≤ 0) → (∀ v19 : Int32, v19 = p1 + (1 : Int32) → rec3 v19 s12)) ∧ ((¬ v11 ≤ 0) → Q (some (.int p1)) s12))))))) n (0 : Int32) σ)
set_option maxHeartbeats 4000000 in
theorem wk28 {l : Launch} {g : zG} {d : Nat} {C : zO} (hG : zGk g) (hC : zSound l g d C) {args : List Value} {Q : zQ} {Y : zY} {σ : zS} (hw : zb28 (zpg g) C args Q Y σ) : zMet l g (d + 1) (⟨"PackingDuel", "leastThreshold", "(I)I"⟩, Cond.code ⟨"PackingDuel", "leastThreshold", "(I)I"⟩ prog_1_method_23_code 3 (Option.some FieldType.int)) args σ Q Y := by
  obtain ⟨a0, x1, rfl, hw⟩ := hw
  refine zof hG (by decide +kernel) [false, false] ⟨rfl, rfl, trivial⟩ (Nat.le_of_ble_eq_true rfl) (ls := [some (va_rf (some a0)), some (.int x1), none]) rfl ?_
  intro X hX hR hTb hd1 hd2 hl hg hnm
  subst hl
  subst hg
  have hd : zDep X d := ⟨hd1, hd2⟩
  refine z_iconst hX (v := (0 : Int32)) dX1_leastThreshold_0 (by decide) ?_
  refine z_istore_n hX dX1_leastThreshold_1 rfl (i := 2) (Nat.le_of_ble_eq_true rfl) rfl (ls2 := [some (va_rf (some a0)), some (.int x1), some (.int (0 : Int32))]) rfl ?_
  obtain ⟨n21, hw⟩ := hw
  refine zIt_w (P := fun (j : Int32 → zS → Prop) => ∀ (p1 : Int32) (s2 : zS), j p1 s2 → zW X s2 2 [some (va_rf (some a0)), some (.int x1), some (.int p1)] []) (fun _ _ h => h.elim) (fun rec3 hrec3 p1 s2 hw => ?_) n21 _ _ hw
  refine z_iload_n hX dX1_leastThreshold_2 rfl (i := 2) rfl ?_
  refine z_sipush hX (v := (200 : Int32)) dX1_leastThreshold_3 (by decide) ?_
  refine z_icmp_gt hX dX1_leastThreshold_6 (tgt := 29) rfl (fun c4 => ?_) (fun c4 => ?_)
  · have hw := hw.1 c4
    refine z_iconst hX (v := (-1 : Int32)) dX1_leastThreshold_29 (by decide) ?_
    exact z_ireturn hX hR dX1_leastThreshold_30 rfl hw
  · have hw := hw.2 c4
    refine z_aload_n hX dX1_leastThreshold_9 rfl (i := 0) rfl ?_
    obtain ⟨a6, f7, v5, r8, m9, e10, hw⟩ := hw
    refine z_get hX zc0 (k := 0) dX1_leastThreshold_10 (Nat.le_of_ble_eq_true rfl) (zlk hX q307) r8 m9 e10 ?_
    refine z_iload_n hX dX1_leastThreshold_13 rfl (i := 1) rfl ?_
    refine z_iload_n hX dX1_leastThreshold_14 rfl (i := 2) rfl ?_
    obtain ⟨a14, f15, r16, m17, hw⟩ := hw
    refine z_invV hX hd r16 (ci := 1) rfl rfl m17 dX1_leastThreshold_15 (hC 82 _ zm82 _ _ _ _ hw) q347 q348 q349 zh2 q350 q131 zn82 rfl (Nat.le_of_ble_eq_true rfl) (st := []) rfl (zcs8 (Nat.le_of_ble_eq_true rfl)) rfl (zkI (fun v11 s12 hw => ?_)) (zout hX hR hTb)
    refine z_if_le hX dX1_leastThreshold_18 (tgt := 23) rfl (fun c18 => ?_) (fun c18 => ?_)
    · have hw := hw.1 c18
      obtain ⟨v19, e20⟩ : ∃ y : Int32, y = p1 + (1 : Int32) := ⟨_, rfl⟩
      refine z_iinc hX dX1_leastThreshold_23 (i := 2) (v := v19) rfl (by rw [e20]; rfl) (Nat.le_of_ble_eq_true rfl) rfl (ls2 := [some (va_rf (some a0)), some (.int x1), some (.int v19)]) rfl ?_
      have hw := hw v19 e20
      refine z_goto hX dX1_leastThreshold_26 (tgt := 2) rfl ?_
      exact hrec3 _ _ hw
    · have hw := hw.2 c18
      refine z_iload_n hX dX1_leastThreshold_21 rfl (i := 2) rfl ?_
      exact z_ireturn hX hR dX1_leastThreshold_22 rfl hw
abbrev cX1_safestPlan : ByteArray := prog_1_method_24_code
def yX1_safestPlan : MethodName := ⟨RX1, "safestPlan", "()I"⟩
def dkwX1_safestPlan_0 : List UInt8 := [42, 180, 0, 46, 182, 0, 199, 172]
abbrev dktX1_safestPlan_0 : List UInt8 := dkwX1_safestPlan_0 ++ []
theorem dksX1_safestPlan_0 : cX1_safestPlan.data.toList.drop 0 = dktX1_safestPlan_0 := by decide +kernel
theorem dX1_safestPlan_0 : decode cX1_safestPlan 0 = .ok (.aload_n 0, 1) := dk_42 (dk_at dksX1_safestPlan_0 0 rfl rfl)
theorem dX1_safestPlan_1 : decode cX1_safestPlan 1 = .ok (.getfield 46, 3) := dk_180 0 46 (dk_at dksX1_safestPlan_0 1 rfl rfl)
theorem dX1_safestPlan_4 : decode cX1_safestPlan 4 = .ok (.invokevirtual 199, 3) := dk_182 0 199 (dk_at dksX1_safestPlan_0 4 rfl rfl)
theorem dX1_safestPlan_7 : decode cX1_safestPlan 7 = .ok (.ireturn, 1) := dk_172 (dk_at dksX1_safestPlan_0 7 rfl rfl)
/-- PackingDuel.safestPlan()I -/
def zb29 (G : zPg) (C : zO) (args : List Value) (Q : zQ) (Y : zY) (σ : zS) : Prop := ∃ (a0 : Nat), args = [.ref a0] ∧ (zgR σ (some a0) 0 0 (fun v1 => zrc σ v1 1 (fun a10 => zcl C 89 [.ref a10] Y σ (zqI (fun v7 s8 => Q (some (.int v7)) s8)))))
set_option maxHeartbeats 4000000 in
theorem wk29 {l : Launch} {g : zG} {d : Nat} {C : zO} (hG : zGk g) (hC : zSound l g d C) {args : List Value} {Q : zQ} {Y : zY} {σ : zS} (hw : zb29 (zpg g) C args Q Y σ) : zMet l g (d + 1) (⟨"PackingDuel", "safestPlan", "()I"⟩, Cond.code ⟨"PackingDuel", "safestPlan", "()I"⟩ prog_1_method_24_code 1 (Option.some FieldType.int)) args σ Q Y := by
  obtain ⟨a0, rfl, hw⟩ := hw
  refine zof hG (by decide +kernel) [false] ⟨rfl, trivial⟩ (Nat.le_of_ble_eq_true rfl) (ls := [some (va_rf (some a0))]) rfl ?_
  intro X hX hR hTb hd1 hd2 hl hg hnm
  subst hl
  subst hg
  have hd : zDep X d := ⟨hd1, hd2⟩
  refine z_aload_n hX dX1_safestPlan_0 rfl (i := 0) rfl ?_
  obtain ⟨a2, f3, v1, r4, m5, e6, hw⟩ := hw
  refine z_get hX zc0 (k := 0) dX1_safestPlan_1 (Nat.le_of_ble_eq_true rfl) (zlk hX q307) r4 m5 e6 ?_
  obtain ⟨a10, f11, r12, m13, hw⟩ := hw
  refine z_invV hX hd r12 (ci := 1) rfl rfl m13 dX1_safestPlan_4 (hC 89 _ zm89 _ _ _ _ hw) q456 q457 q458 zh2 q459 q131 zn89 rfl (Nat.le_of_ble_eq_true rfl) (st := []) rfl (zcs8 (Nat.le_of_ble_eq_true rfl)) rfl (zkI (fun v7 s8 hw => ?_)) (zout hX hR hTb)
  exact z_ireturn hX hR dX1_safestPlan_7 rfl hw
abbrev cX1_kernelValue : ByteArray := prog_1_method_29_code
def yX1_kernelValue : MethodName := ⟨RX1, "kernelValue", "(Z)J"⟩
def dkwX1_kernelValue_1 : List UInt8 := [180, 0, 237, 44, 180, 0, 241, 183, 0, 244, 27, 184, 0, 247, 173]
abbrev dktX1_kernelValue_1 : List UInt8 := dkwX1_kernelValue_1 ++ []
def dkwX1_kernelValue_0 : List UInt8 := [42, 180, 0, 46, 182, 0, 231, 77, 44, 199, 0, 9, 20, 0, 235, 167, 0, 22, 187, 0, 223, 89, 44]
abbrev dktX1_kernelValue_0 : List UInt8 := dkwX1_kernelValue_0 ++ dktX1_kernelValue_1
theorem dksX1_kernelValue_0 : cX1_kernelValue.data.toList.drop 0 = dktX1_kernelValue_0 := by decide +kernel
theorem dksX1_kernelValue_1 : cX1_kernelValue.data.toList.drop 23 = dktX1_kernelValue_1 := dk_seg dksX1_kernelValue_0 23 rfl rfl
theorem dX1_kernelValue_0 : decode cX1_kernelValue 0 = .ok (.aload_n 0, 1) := dk_42 (dk_at dksX1_kernelValue_0 0 rfl rfl)
theorem dX1_kernelValue_1 : decode cX1_kernelValue 1 = .ok (.getfield 46, 3) := dk_180 0 46 (dk_at dksX1_kernelValue_0 1 rfl rfl)
theorem dX1_kernelValue_4 : decode cX1_kernelValue 4 = .ok (.invokevirtual 231, 3) := dk_182 0 231 (dk_at dksX1_kernelValue_0 4 rfl rfl)
theorem dX1_kernelValue_7 : decode cX1_kernelValue 7 = .ok (.astore_n 2, 1) := dk_77 (dk_at dksX1_kernelValue_0 7 rfl rfl)
theorem dX1_kernelValue_8 : decode cX1_kernelValue 8 = .ok (.aload_n 2, 1) := dk_44 (dk_at dksX1_kernelValue_0 8 rfl rfl)
theorem dX1_kernelValue_9 : decode cX1_kernelValue 9 = .ok (.ifnonnull 9, 3) := dk_199 0 9 (dk_at dksX1_kernelValue_0 9 rfl rfl)
theorem dX1_kernelValue_12 : decode cX1_kernelValue 12 = .ok (.ldc2_w 235, 3) := dk_20 0 235 (dk_at dksX1_kernelValue_0 12 rfl rfl)
theorem dX1_kernelValue_15 : decode cX1_kernelValue 15 = .ok (.goto 22, 3) := dk_167 0 22 (dk_at dksX1_kernelValue_0 15 rfl rfl)
theorem dX1_kernelValue_18 : decode cX1_kernelValue 18 = .ok (.new 223, 3) := dk_187 0 223 (dk_at dksX1_kernelValue_0 18 rfl rfl)
theorem dX1_kernelValue_21 : decode cX1_kernelValue 21 = .ok (.dup, 1) := dk_89 (dk_at dksX1_kernelValue_0 21 rfl rfl)
theorem dX1_kernelValue_22 : decode cX1_kernelValue 22 = .ok (.aload_n 2, 1) := dk_44 (dk_at dksX1_kernelValue_0 22 rfl rfl)
theorem dX1_kernelValue_23 : decode cX1_kernelValue 23 = .ok (.getfield 237, 3) := dk_180 0 237 (dk_at dksX1_kernelValue_1 0 rfl rfl)
theorem dX1_kernelValue_26 : decode cX1_kernelValue 26 = .ok (.aload_n 2, 1) := dk_44 (dk_at dksX1_kernelValue_1 3 rfl rfl)
theorem dX1_kernelValue_27 : decode cX1_kernelValue 27 = .ok (.getfield 241, 3) := dk_180 0 241 (dk_at dksX1_kernelValue_1 4 rfl rfl)
theorem dX1_kernelValue_30 : decode cX1_kernelValue 30 = .ok (.invokespecial 244, 3) := dk_183 0 244 (dk_at dksX1_kernelValue_1 7 rfl rfl)
theorem dX1_kernelValue_33 : decode cX1_kernelValue 33 = .ok (.iload_n 1, 1) := dk_27 (dk_at dksX1_kernelValue_1 10 rfl rfl)
theorem dX1_kernelValue_34 : decode cX1_kernelValue 34 = .ok (.invokestatic 247, 3) := dk_184 0 247 (dk_at dksX1_kernelValue_1 11 rfl rfl)
theorem dX1_kernelValue_37 : decode cX1_kernelValue 37 = .ok (.lreturn, 1) := dk_173 (dk_at dksX1_kernelValue_1 14 rfl rfl)
/-- PackingDuel.kernelValue(Z)J -/
def zb30 (G : zPg) (C : zO) (args : List Value) (Q : zQ) (Y : zY) (σ : zS) : Prop := ∃ (a0 : Nat) (x1 : Int32), args = [.ref a0, .int x1] ∧ (zgR σ (some a0) 0 0 (fun v1 => zrc σ v1 1 (fun a10 => zcl C 90 [.ref a10] Y σ (zqR (fun v7 s8 => zJ (fun (p14 : Int64) (s15 : zS) => Q (some (.long p14)) s15) (fun (j16 : Int64 → zS → Prop) => ((¬ v7 = none) → znew s8 24 [.long 0, .long 0] 2 (fun s18 => zgL s18 v7 23 6 (fun v21 => zgL s18 v7 23 5 (fun v27 => (∃ a36, (some s8.2.1) = some a36 ∧ zcl C 503 [.ref a36, .long v21, .long v27] Y s18 (zqV (fun s34 => zcl C 32 [va_rf (some s8.2.1), .int x1] Y s34 (zqL (fun v38 s39 => j16 v38 s39))))))))) ∧ ((v7 = none) → j16 (-1000000000 : Int64) s8)))))))
set_option maxHeartbeats 4000000 in
theorem wk30 {l : Launch} {g : zG} {d : Nat} {C : zO} (hG : zGk g) (hC : zSound l g d C) {args : List Value} {Q : zQ} {Y : zY} {σ : zS} (hw : zb30 (zpg g) C args Q Y σ) : zMet l g (d + 1) (⟨"PackingDuel", "kernelValue", "(Z)J"⟩, Cond.code ⟨"PackingDuel", "kernelValue", "(Z)J"⟩ prog_1_method_29_code 3 (Option.some FieldType.long)) args σ Q Y := by
  obtain ⟨a0, x1, rfl, hw⟩ := hw
  refine zof hG (by decide +kernel) [false, false] ⟨rfl, rfl, trivial⟩ (Nat.le_of_ble_eq_true rfl) (ls := [some (va_rf (some a0)), some (.int x1), none]) rfl ?_
  intro X hX hR hTb hd1 hd2 hl hg hnm
  subst hl
  subst hg
  have hd : zDep X d := ⟨hd1, hd2⟩
  refine z_aload_n hX dX1_kernelValue_0 rfl (i := 0) rfl ?_
  obtain ⟨a2, f3, v1, r4, m5, e6, hw⟩ := hw
  refine z_get hX zc0 (k := 0) dX1_kernelValue_1 (Nat.le_of_ble_eq_true rfl) (zlk hX q307) r4 m5 e6 ?_
  obtain ⟨a10, f11, r12, m13, hw⟩ := hw
  refine z_invV hX hd r12 (ci := 1) rfl rfl m13 dX1_kernelValue_4 (hC 90 _ zm90 _ _ _ _ hw) q471 q472 q473 zh2 q474 q131 zn90 rfl (Nat.le_of_ble_eq_true rfl) (st := []) rfl (zcs8 (Nat.le_of_ble_eq_true rfl)) rfl (zkR (fun v7 s8 hw => ?_)) (zout hX hR hTb)
  refine z_astore_n hX dX1_kernelValue_7 rfl (i := 2) (Nat.le_of_ble_eq_true rfl) rfl (ls2 := [some (va_rf (some a0)), some (.int x1), some (va_rf v7)]) rfl ?_
  refine z_aload_n hX dX1_kernelValue_8 rfl (i := 2) rfl ?_
  refine zJ_w (P := fun (j : Int64 → zS → Prop) => ∀ (p14 : Int64) (s15 : zS), j p14 s15 → zW X s15 37 [none, none, none] [.long p14]) hw (fun p14 s15 hw => ?_) (fun j16 hj16 hw => ?_)
  · exact z_lreturn hX hR dX1_kernelValue_37 hw
  · refine z_ifnonnull hX dX1_kernelValue_9 (tgt := 18) rfl (fun c17 => ?_) (fun c17 => ?_)
    · have hw := hw.1 c17
      refine z_new hX zc24 dX1_kernelValue_18 q604 q605 q178 (fs := [.long 0, .long 0]) (fun j hj => by have hj : j < 2 := hj; exact zdf24 j hj) hw.1 hw.2.1 (fun z19 => z_nm (fun s18 e20 => ?_))
      have hw := hw.2.2 z19 s18 e20
      refine z_dup hX dX1_kernelValue_21 (zc_rf _) ?_
      refine z_aload_n hX dX1_kernelValue_22 rfl (i := 2) rfl ?_
      obtain ⟨a22, f23, v21, r24, m25, e26, hw⟩ := hw
      refine z_get hX zc23 (k := 6) dX1_kernelValue_23 (Nat.le_of_ble_eq_true rfl) (zlkN hX "PackingDuel" q574) r24 m25 e26 ?_
      refine z_aload_n hX dX1_kernelValue_26 rfl (i := 2) rfl ?_
      obtain ⟨a28, f29, v27, r30, m31, e32, hw⟩ := hw
      refine z_get hX zc23 (k := 5) dX1_kernelValue_27 (Nat.le_of_ble_eq_true rfl) (zlkN hX "PackingDuel" q572) r30 m31 e32 ?_
      obtain ⟨a36, r37, hw⟩ := hw
      refine z_invI hX hd r37 dX1_kernelValue_30 (hC 503 _ zm503 _ _ _ _ hw) q606 q607 rfl zh45 q608 q178 zn503 rfl (Nat.le_of_ble_eq_true rfl) (st := [va_rf (some s8.2.1)]) rfl (zcs8 (Nat.le_of_ble_eq_true rfl)) rfl (zkV (fun s34 hw => ?_)) (zout hX hR hTb)
      refine z_iload_n hX dX1_kernelValue_33 rfl (i := 1) rfl ?_
      refine z_invS hX hd dX1_kernelValue_34 (hC 32 _ zm32 _ _ _ _ hw) q622 q623 zh1 q624 q130 zn32 rfl (Nat.le_of_ble_eq_true rfl) (st := []) rfl (zcs8 (Nat.le_of_ble_eq_true rfl)) rfl (zkL (fun v38 s39 hw => ?_)) (zout hX hR hTb)
      refine z_sub (ls' := [none, none, none]) (zsN (zsN (zsN (zs0)))) ?_
      exact hj16 _ _ hw
    · have hw := hw.2 c17
      refine z_ldc2 hX dX1_kernelValue_12 q603 ?_
      refine z_goto hX dX1_kernelValue_15 (tgt := 37) rfl ?_
      refine z_sub (ls' := [none, none, none]) (zsN (zsN (zsN (zs0)))) ?_
      exact hj16 _ _ hw
abbrev cX1_has : ByteArray := prog_1_method_3_code
def yX1_has : MethodName := ⟨RX1, "has", "(II)Z"⟩
def dkwX1_has_0 : List UInt8 := [26, 27, 122, 4, 126, 4, 160, 0, 7, 4, 167, 0, 4, 3, 172]
abbrev dktX1_has_0 : List UInt8 := dkwX1_has_0 ++ []
theorem dksX1_has_0 : cX1_has.data.toList.drop 0 = dktX1_has_0 := by decide +kernel
theorem dX1_has_0 : decode cX1_has 0 = .ok (.iload_n 0, 1) := dk_26 (dk_at dksX1_has_0 0 rfl rfl)
theorem dX1_has_1 : decode cX1_has 1 = .ok (.iload_n 1, 1) := dk_27 (dk_at dksX1_has_0 1 rfl rfl)
theorem dX1_has_2 : decode cX1_has 2 = .ok (.ishr, 1) := dk_122 (dk_at dksX1_has_0 2 rfl rfl)
theorem dX1_has_3 : decode cX1_has 3 = .ok (.iconst 1, 1) := dk_4 (dk_at dksX1_has_0 3 rfl rfl)
theorem dX1_has_4 : decode cX1_has 4 = .ok (.iand, 1) := dk_126 (dk_at dksX1_has_0 4 rfl rfl)
theorem dX1_has_5 : decode cX1_has 5 = .ok (.iconst 1, 1) := dk_4 (dk_at dksX1_has_0 5 rfl rfl)
theorem dX1_has_6 : decode cX1_has 6 = .ok (.if_icmp .ne 7, 3) := dk_160 0 7 (dk_at dksX1_has_0 6 rfl rfl)
theorem dX1_has_9 : decode cX1_has 9 = .ok (.iconst 1, 1) := dk_4 (dk_at dksX1_has_0 9 rfl rfl)
theorem dX1_has_10 : decode cX1_has 10 = .ok (.goto 4, 3) := dk_167 0 4 (dk_at dksX1_has_0 10 rfl rfl)
theorem dX1_has_13 : decode cX1_has 13 = .ok (.iconst 0, 1) := dk_3 (dk_at dksX1_has_0 13 rfl rfl)
theorem dX1_has_14 : decode cX1_has 14 = .ok (.ireturn, 1) := dk_172 (dk_at dksX1_has_0 14 rfl rfl)
/-- PackingDuel.has(II)Z -/
def zb31 (G : zPg) (C : zO) (args : List Value) (Q : zQ) (Y : zY) (σ : zS) : Prop := ∃ (x1 : Int32) (x2 : Int32), args = [.int x1, .int x2] ∧ (zJ (fun (p1 : Int32) (s2 : zS) => zbool p1 ∧ Q (some (.int p1)) s2) (fun (j3 : Int32 → zS → Prop) => ((¬ ((x1 >>> (x2 &&& 31)) &&& (1 : Int32)) = (1 : Int32)) → j3 (0 : Int32) σ) ∧ ((((x1 >>> (x2 &&& 31)) &&& (1 : Int32)) = (1 : Int32)) → j3 (1 : Int32) σ)))
set_option maxHeartbeats 4000000 in
theorem wk31 {l : Launch} {g : zG} {d : Nat} {C : zO} (hG : zGk g) (hC : zSound l g d C) {args : List Value} {Q : zQ} {Y : zY} {σ : zS} (hw : zb31 (zpg g) C args Q Y σ) : zMet l g (d + 1) (⟨"PackingDuel", "has", "(II)Z"⟩, Cond.code ⟨"PackingDuel", "has", "(II)Z"⟩ prog_1_method_3_code 2 (Option.some FieldType.boolean)) args σ Q Y := by
  obtain ⟨x1, x2, rfl, hw⟩ := hw
  refine zof hG (by decide +kernel) [false, false] ⟨rfl, rfl, trivial⟩ (Nat.le_of_ble_eq_true rfl) (ls := [some (.int x1), some (.int x2)]) rfl ?_
  intro X hX hR hTb hd1 hd2 hl hg hnm
  subst hl
  subst hg
  have hd : zDep X d := ⟨hd1, hd2⟩
  refine z_iload_n hX dX1_has_0 rfl (i := 0) rfl ?_
  refine z_iload_n hX dX1_has_1 rfl (i := 1) rfl ?_
  refine z_ishr hX dX1_has_2 ?_
  refine z_iconst hX (v := (1 : Int32)) dX1_has_3 (by decide) ?_
  refine z_iand hX dX1_has_4 ?_
  refine z_iconst hX (v := (1 : Int32)) dX1_has_5 (by decide) ?_
  refine zJ_w (P := fun (j : Int32 → zS → Prop) => ∀ (p1 : Int32) (s2 : zS), j p1 s2 → zW X s2 14 [none, none] [.int p1]) hw (fun p1 s2 hw => ?_) (fun j3 hj3 hw => ?_)
  · exact z_ireturn hX hR dX1_has_14 (zn_z hw.1) hw.2
  · refine z_icmp_ne hX dX1_has_6 (tgt := 13) rfl (fun c4 => ?_) (fun c4 => ?_)
    · have hw := hw.1 c4
      refine z_iconst hX (v := (0 : Int32)) dX1_has_13 (by decide) ?_
      refine z_sub (ls' := [none, none]) (zsN (zsN (zs0))) ?_
      exact hj3 _ _ hw
    · have hw := hw.2 c4
      refine z_iconst hX (v := (1 : Int32)) dX1_has_9 (by decide) ?_
      refine z_goto hX dX1_has_10 (tgt := 14) rfl ?_
      refine z_sub (ls' := [none, none]) (zsN (zsN (zs0))) ?_
      exact hj3 _ _ hw
abbrev cX1_told : ByteArray := prog_1_method_28_code
def yX1_told : MethodName := ⟨RX1, "told", "(LPackingDuel$Ratio;Z)J"⟩
def dkwX1_told_0 : List UInt8 := [27, 153, 0, 10, 42, 180, 0, 222, 167, 0, 7, 42, 180, 0, 228, 173]
abbrev dktX1_told_0 : List UInt8 := dkwX1_told_0 ++ []
theorem dksX1_told_0 : cX1_told.data.toList.drop 0 = dktX1_told_0 := by decide +kernel
theorem dX1_told_0 : decode cX1_told 0 = .ok (.iload_n 1, 1) := dk_27 (dk_at dksX1_told_0 0 rfl rfl)
theorem dX1_told_1 : decode cX1_told 1 = .ok (.ifCond .eq 10, 3) := dk_153 0 10 (dk_at dksX1_told_0 1 rfl rfl)
theorem dX1_told_4 : decode cX1_told 4 = .ok (.aload_n 0, 1) := dk_42 (dk_at dksX1_told_0 4 rfl rfl)
theorem dX1_told_5 : decode cX1_told 5 = .ok (.getfield 222, 3) := dk_180 0 222 (dk_at dksX1_told_0 5 rfl rfl)
theorem dX1_told_8 : decode cX1_told 8 = .ok (.goto 7, 3) := dk_167 0 7 (dk_at dksX1_told_0 8 rfl rfl)
theorem dX1_told_11 : decode cX1_told 11 = .ok (.aload_n 0, 1) := dk_42 (dk_at dksX1_told_0 11 rfl rfl)
theorem dX1_told_12 : decode cX1_told 12 = .ok (.getfield 228, 3) := dk_180 0 228 (dk_at dksX1_told_0 12 rfl rfl)
theorem dX1_told_15 : decode cX1_told 15 = .ok (.lreturn, 1) := dk_173 (dk_at dksX1_told_0 15 rfl rfl)
/-- PackingDuel.told(LPackingDuel$Ratio;Z)J -/
def zb32 (G : zPg) (C : zO) (args : List Value) (Q : zQ) (Y : zY) (σ : zS) : Prop := ∃ (x1 : Option Nat) (x2 : Int32), args = [va_rf x1, .int x2] ∧ (zJ (fun (p1 : Int64) (s2 : zS) => Q (some (.long p1)) s2) (fun (j3 : Int64 → zS → Prop) => ((x2 = 0) → zgL σ x1 24 1 (fun v5 => j3 v5 σ)) ∧ ((¬ x2 = 0) → zgL σ x1 24 0 (fun v11 => j3 v11 σ))))
set_option maxHeartbeats 4000000 in
theorem wk32 {l : Launch} {g : zG} {d : Nat} {C : zO} (hG : zGk g) (hC : zSound l g d C) {args : List Value} {Q : zQ} {Y : zY} {σ : zS} (hw : zb32 (zpg g) C args Q Y σ) : zMet l g (d + 1) (⟨"PackingDuel", "told", "(LPackingDuel$Ratio;Z)J"⟩, Cond.code ⟨"PackingDuel", "told", "(LPackingDuel$Ratio;Z)J"⟩ prog_1_method_28_code 2 (Option.some FieldType.long)) args σ Q Y := by
  obtain ⟨x1, x2, rfl, hw⟩ := hw
  refine zof hG (by decide +kernel) [false, false] ⟨(zc_rf _), rfl, trivial⟩ (Nat.le_of_ble_eq_true rfl) (ls := [some (va_rf x1), some (.int x2)]) rfl ?_
  intro X hX hR hTb hd1 hd2 hl hg hnm
  subst hl
  subst hg
  have hd : zDep X d := ⟨hd1, hd2⟩
  refine z_iload_n hX dX1_told_0 rfl (i := 1) rfl ?_
  refine zJ_w (P := fun (j : Int64 → zS → Prop) => ∀ (p1 : Int64) (s2 : zS), j p1 s2 → zW X s2 15 [none, none] [.long p1]) hw (fun p1 s2 hw => ?_) (fun j3 hj3 hw => ?_)
  · exact z_lreturn hX hR dX1_told_15 hw
  · refine z_if_eq hX dX1_told_1 (tgt := 11) rfl (fun c4 => ?_) (fun c4 => ?_)
    · have hw := hw.1 c4
      refine z_aload_n hX dX1_told_11 rfl (i := 0) rfl ?_
      obtain ⟨a6, f7, v5, r8, m9, e10, hw⟩ := hw
      refine z_get hX zc24 (k := 1) dX1_told_12 (Nat.le_of_ble_eq_true rfl) (zlkN hX "PackingDuel" q616) r8 m9 e10 ?_
      refine z_sub (ls' := [none, none]) (zsN (zsN (zs0))) ?_
      exact hj3 _ _ hw
    · have hw := hw.2 c4
      refine z_aload_n hX dX1_told_4 rfl (i := 0) rfl ?_
      obtain ⟨a12, f13, v11, r14, m15, e16, hw⟩ := hw
      refine z_get hX zc24 (k := 0) dX1_told_5 (Nat.le_of_ble_eq_true rfl) (zlkN hX "PackingDuel" q614) r14 m15 e16 ?_
      refine z_goto hX dX1_told_8 (tgt := 15) rfl ?_
      refine z_sub (ls' := [none, none]) (zsN (zsN (zs0))) ?_
      exact hj3 _ _ hw
abbrev cX1_kernel : ByteArray := prog_1_method_30_code
def yX1_kernel : MethodName := ⟨RX1, "kernel", "(Z)I"⟩
def dkwX1_kernel_1 : List UInt8 := [167, 0, 7, 44, 180, 0, 254, 172]
abbrev dktX1_kernel_1 : List UInt8 := dkwX1_kernel_1 ++ []
def dkwX1_kernel_0 : List UInt8 := [42, 180, 0, 46, 182, 0, 231, 77, 44, 199, 0, 7, 2, 167, 0, 18, 27, 153, 0, 10, 44, 180, 0, 251]
abbrev dktX1_kernel_0 : List UInt8 := dkwX1_kernel_0 ++ dktX1_kernel_1
theorem dksX1_kernel_0 : cX1_kernel.data.toList.drop 0 = dktX1_kernel_0 := by decide +kernel
theorem dksX1_kernel_1 : cX1_kernel.data.toList.drop 24 = dktX1_kernel_1 := dk_seg dksX1_kernel_0 24 rfl rfl
theorem dX1_kernel_0 : decode cX1_kernel 0 = .ok (.aload_n 0, 1) := dk_42 (dk_at dksX1_kernel_0 0 rfl rfl)
theorem dX1_kernel_1 : decode cX1_kernel 1 = .ok (.getfield 46, 3) := dk_180 0 46 (dk_at dksX1_kernel_0 1 rfl rfl)
theorem dX1_kernel_4 : decode cX1_kernel 4 = .ok (.invokevirtual 231, 3) := dk_182 0 231 (dk_at dksX1_kernel_0 4 rfl rfl)
theorem dX1_kernel_7 : decode cX1_kernel 7 = .ok (.astore_n 2, 1) := dk_77 (dk_at dksX1_kernel_0 7 rfl rfl)
theorem dX1_kernel_8 : decode cX1_kernel 8 = .ok (.aload_n 2, 1) := dk_44 (dk_at dksX1_kernel_0 8 rfl rfl)
theorem dX1_kernel_9 : decode cX1_kernel 9 = .ok (.ifnonnull 7, 3) := dk_199 0 7 (dk_at dksX1_kernel_0 9 rfl rfl)
theorem dX1_kernel_12 : decode cX1_kernel 12 = .ok (.iconst (-1), 1) := dk_2 (dk_at dksX1_kernel_0 12 rfl rfl)
theorem dX1_kernel_13 : decode cX1_kernel 13 = .ok (.goto 18, 3) := dk_167 0 18 (dk_at dksX1_kernel_0 13 rfl rfl)
theorem dX1_kernel_16 : decode cX1_kernel 16 = .ok (.iload_n 1, 1) := dk_27 (dk_at dksX1_kernel_0 16 rfl rfl)
theorem dX1_kernel_17 : decode cX1_kernel 17 = .ok (.ifCond .eq 10, 3) := dk_153 0 10 (dk_at dksX1_kernel_0 17 rfl rfl)
theorem dX1_kernel_20 : decode cX1_kernel 20 = .ok (.aload_n 2, 1) := dk_44 (dk_at dksX1_kernel_0 20 rfl rfl)
theorem dX1_kernel_21 : decode cX1_kernel 21 = .ok (.getfield 251, 3) := dk_180 0 251 (dk_at dksX1_kernel_0 21 rfl rfl)
theorem dX1_kernel_24 : decode cX1_kernel 24 = .ok (.goto 7, 3) := dk_167 0 7 (dk_at dksX1_kernel_1 0 rfl rfl)
theorem dX1_kernel_27 : decode cX1_kernel 27 = .ok (.aload_n 2, 1) := dk_44 (dk_at dksX1_kernel_1 3 rfl rfl)
theorem dX1_kernel_28 : decode cX1_kernel 28 = .ok (.getfield 254, 3) := dk_180 0 254 (dk_at dksX1_kernel_1 4 rfl rfl)
theorem dX1_kernel_31 : decode cX1_kernel 31 = .ok (.ireturn, 1) := dk_172 (dk_at dksX1_kernel_1 7 rfl rfl)
/-- PackingDuel.kernel(Z)I -/
def zb33 (G : zPg) (C : zO) (args : List Value) (Q : zQ) (Y : zY) (σ : zS) : Prop := ∃ (a0 : Nat) (x1 : Int32), args = [.ref a0, .int x1] ∧ (zgR σ (some a0) 0 0 (fun v1 => zrc σ v1 1 (fun a10 => zcl C 90 [.ref a10] Y σ (zqR (fun v7 s8 => zJ (fun (p14 : Int32) (s15 : zS) => Q (some (.int p14)) s15) (fun (j16 : Int32 → zS → Prop) => ((¬ v7 = none) → ((x1 = 0) → zgI s8 v7 23 2 (fun v19 => j16 v19 s8)) ∧ ((¬ x1 = 0) → zgI s8 v7 23 1 (fun v25 => j16 v25 s8))) ∧ ((v7 = none) → j16 (-1 : Int32) s8)))))))
set_option maxHeartbeats 4000000 in
theorem wk33 {l : Launch} {g : zG} {d : Nat} {C : zO} (hG : zGk g) (hC : zSound l g d C) {args : List Value} {Q : zQ} {Y : zY} {σ : zS} (hw : zb33 (zpg g) C args Q Y σ) : zMet l g (d + 1) (⟨"PackingDuel", "kernel", "(Z)I"⟩, Cond.code ⟨"PackingDuel", "kernel", "(Z)I"⟩ prog_1_method_30_code 3 (Option.some FieldType.int)) args σ Q Y := by
  obtain ⟨a0, x1, rfl, hw⟩ := hw
  refine zof hG (by decide +kernel) [false, false] ⟨rfl, rfl, trivial⟩ (Nat.le_of_ble_eq_true rfl) (ls := [some (va_rf (some a0)), some (.int x1), none]) rfl ?_
  intro X hX hR hTb hd1 hd2 hl hg hnm
  subst hl
  subst hg
  have hd : zDep X d := ⟨hd1, hd2⟩
  refine z_aload_n hX dX1_kernel_0 rfl (i := 0) rfl ?_
  obtain ⟨a2, f3, v1, r4, m5, e6, hw⟩ := hw
  refine z_get hX zc0 (k := 0) dX1_kernel_1 (Nat.le_of_ble_eq_true rfl) (zlk hX q307) r4 m5 e6 ?_
  obtain ⟨a10, f11, r12, m13, hw⟩ := hw
  refine z_invV hX hd r12 (ci := 1) rfl rfl m13 dX1_kernel_4 (hC 90 _ zm90 _ _ _ _ hw) q471 q472 q473 zh2 q474 q131 zn90 rfl (Nat.le_of_ble_eq_true rfl) (st := []) rfl (zcs8 (Nat.le_of_ble_eq_true rfl)) rfl (zkR (fun v7 s8 hw => ?_)) (zout hX hR hTb)
  refine z_astore_n hX dX1_kernel_7 rfl (i := 2) (Nat.le_of_ble_eq_true rfl) rfl (ls2 := [some (va_rf (some a0)), some (.int x1), some (va_rf v7)]) rfl ?_
  refine z_aload_n hX dX1_kernel_8 rfl (i := 2) rfl ?_
  refine zJ_w (P := fun (j : Int32 → zS → Prop) => ∀ (p14 : Int32) (s15 : zS), j p14 s15 → zW X s15 31 [none, none, none] [.int p14]) hw (fun p14 s15 hw => ?_) (fun j16 hj16 hw => ?_)
  · exact z_ireturn hX hR dX1_kernel_31 rfl hw
  · refine z_ifnonnull hX dX1_kernel_9 (tgt := 16) rfl (fun c17 => ?_) (fun c17 => ?_)
    · have hw := hw.1 c17
      refine z_iload_n hX dX1_kernel_16 rfl (i := 1) rfl ?_
      refine z_if_eq hX dX1_kernel_17 (tgt := 27) rfl (fun c18 => ?_) (fun c18 => ?_)
      · have hw := hw.1 c18
        refine z_aload_n hX dX1_kernel_27 rfl (i := 2) rfl ?_
        obtain ⟨a20, f21, v19, r22, m23, e24, hw⟩ := hw
        refine z_get hX zc23 (k := 2) dX1_kernel_28 (Nat.le_of_ble_eq_true rfl) (zlkN hX "PackingDuel" q566) r22 m23 e24 ?_
        refine z_sub (ls' := [none, none, none]) (zsN (zsN (zsN (zs0)))) ?_
        exact hj16 _ _ hw
      · have hw := hw.2 c18
        refine z_aload_n hX dX1_kernel_20 rfl (i := 2) rfl ?_
        obtain ⟨a26, f27, v25, r28, m29, e30, hw⟩ := hw
        refine z_get hX zc23 (k := 1) dX1_kernel_21 (Nat.le_of_ble_eq_true rfl) (zlkN hX "PackingDuel" q564) r28 m29 e30 ?_
        refine z_goto hX dX1_kernel_24 (tgt := 31) rfl ?_
        refine z_sub (ls' := [none, none, none]) (zsN (zsN (zsN (zs0)))) ?_
        exact hj16 _ _ hw
    · have hw := hw.2 c17
      refine z_iconst hX (v := (-1 : Int32)) dX1_kernel_12 (by decide) ?_
      refine z_goto hX dX1_kernel_13 (tgt := 31) rfl ?_
      refine z_sub (ls' := [none, none, none]) (zsN (zsN (zsN (zs0)))) ?_
      exact hj16 _ _ hw
abbrev cX1_goodKernels : ByteArray := prog_1_method_32_code
def yX1_goodKernels : MethodName := ⟨RX1, "goodKernels", "()I"⟩
def dkwX1_goodKernels_0 : List UInt8 := [42, 180, 0, 46, 182, 1, 8, 172]
abbrev dktX1_goodKernels_0 : List UInt8 := dkwX1_goodKernels_0 ++ []
theorem dksX1_goodKernels_0 : cX1_goodKernels.data.toList.drop 0 = dktX1_goodKernels_0 := by decide +kernel
theorem dX1_goodKernels_0 : decode cX1_goodKernels 0 = .ok (.aload_n 0, 1) := dk_42 (dk_at dksX1_goodKernels_0 0 rfl rfl)
theorem dX1_goodKernels_1 : decode cX1_goodKernels 1 = .ok (.getfield 46, 3) := dk_180 0 46 (dk_at dksX1_goodKernels_0 1 rfl rfl)
theorem dX1_goodKernels_4 : decode cX1_goodKernels 4 = .ok (.invokevirtual 264, 3) := dk_182 1 8 (dk_at dksX1_goodKernels_0 4 rfl rfl)
theorem dX1_goodKernels_7 : decode cX1_goodKernels 7 = .ok (.ireturn, 1) := dk_172 (dk_at dksX1_goodKernels_0 7 rfl rfl)
/-- PackingDuel.goodKernels()I -/
def zb34 (G : zPg) (C : zO) (args : List Value) (Q : zQ) (Y : zY) (σ : zS) : Prop := ∃ (a0 : Nat), args = [.ref a0] ∧ (zgR σ (some a0) 0 0 (fun v1 => zrc σ v1 1 (fun a10 => zcl C 95 [.ref a10] Y σ (zqI (fun v7 s8 => Q (some (.int v7)) s8)))))
set_option maxHeartbeats 4000000 in
theorem wk34 {l : Launch} {g : zG} {d : Nat} {C : zO} (hG : zGk g) (hC : zSound l g d C) {args : List Value} {Q : zQ} {Y : zY} {σ : zS} (hw : zb34 (zpg g) C args Q Y σ) : zMet l g (d + 1) (⟨"PackingDuel", "goodKernels", "()I"⟩, Cond.code ⟨"PackingDuel", "goodKernels", "()I"⟩ prog_1_method_32_code 1 (Option.some FieldType.int)) args σ Q Y := by
  obtain ⟨a0, rfl, hw⟩ := hw
  refine zof hG (by decide +kernel) [false] ⟨rfl, trivial⟩ (Nat.le_of_ble_eq_true rfl) (ls := [some (va_rf (some a0))]) rfl ?_
  intro X hX hR hTb hd1 hd2 hl hg hnm
  subst hl
  subst hg
  have hd : zDep X d := ⟨hd1, hd2⟩
  refine z_aload_n hX dX1_goodKernels_0 rfl (i := 0) rfl ?_
  obtain ⟨a2, f3, v1, r4, m5, e6, hw⟩ := hw
  refine z_get hX zc0 (k := 0) dX1_goodKernels_1 (Nat.le_of_ble_eq_true rfl) (zlk hX q307) r4 m5 e6 ?_
  obtain ⟨a10, f11, r12, m13, hw⟩ := hw
  refine z_invV hX hd r12 (ci := 1) rfl rfl m13 dX1_goodKernels_4 (hC 95 _ zm95 _ _ _ _ hw) q633 q634 q635 zh2 q636 q131 zn95 rfl (Nat.le_of_ble_eq_true rfl) (st := []) rfl (zcs8 (Nat.le_of_ble_eq_true rfl)) rfl (zkI (fun v7 s8 hw => ?_)) (zout hX hR hTb)
  exact z_ireturn hX hR dX1_goodKernels_7 rfl hw
abbrev cX1_outcome : ByteArray := prog_1_method_35_code
def yX1_outcome : MethodName := ⟨RX1, "outcome", "()I"⟩
def dkwX1_outcome_0 : List UInt8 := [42, 180, 0, 46, 182, 1, 40, 172]
abbrev dktX1_outcome_0 : List UInt8 := dkwX1_outcome_0 ++ []
theorem dksX1_outcome_0 : cX1_outcome.data.toList.drop 0 = dktX1_outcome_0 := by decide +kernel
theorem dX1_outcome_0 : decode cX1_outcome 0 = .ok (.aload_n 0, 1) := dk_42 (dk_at dksX1_outcome_0 0 rfl rfl)
theorem dX1_outcome_1 : decode cX1_outcome 1 = .ok (.getfield 46, 3) := dk_180 0 46 (dk_at dksX1_outcome_0 1 rfl rfl)
theorem dX1_outcome_4 : decode cX1_outcome 4 = .ok (.invokevirtual 296, 3) := dk_182 1 40 (dk_at dksX1_outcome_0 4 rfl rfl)
theorem dX1_outcome_7 : decode cX1_outcome 7 = .ok (.ireturn, 1) := dk_172 (dk_at dksX1_outcome_0 7 rfl rfl)
/-- PackingDuel.outcome()I -/
def zb35 (G : zPg) (C : zO) (args : List Value) (Q : zQ) (Y : zY) (σ : zS) : Prop := ∃ (a0 : Nat), args = [.ref a0] ∧ (zgR σ (some a0) 0 0 (fun v1 => zrc σ v1 1 (fun a10 => zcl C 96 [.ref a10] Y σ (zqI (fun v7 s8 => Q (some (.int v7)) s8)))))
set_option maxHeartbeats 4000000 in
theorem wk35 {l : Launch} {g : zG} {d : Nat} {C : zO} (hG : zGk g) (hC : zSound l g d C) {args : List Value} {Q : zQ} {Y : zY} {σ : zS} (hw : zb35 (zpg g) C args Q Y σ) : zMet l g (d + 1) (⟨"PackingDuel", "outcome", "()I"⟩, Cond.code ⟨"PackingDuel", "outcome", "()I"⟩ prog_1_method_35_code 1 (Option.some FieldType.int)) args σ Q Y := by
  obtain ⟨a0, rfl, hw⟩ := hw
  refine zof hG (by decide +kernel) [false] ⟨rfl, trivial⟩ (Nat.le_of_ble_eq_true rfl) (ls := [some (va_rf (some a0))]) rfl ?_
  intro X hX hR hTb hd1 hd2 hl hg hnm
  subst hl
  subst hg
  have hd : zDep X d := ⟨hd1, hd2⟩
  refine z_aload_n hX dX1_outcome_0 rfl (i := 0) rfl ?_
  obtain ⟨a2, f3, v1, r4, m5, e6, hw⟩ := hw
  refine z_get hX zc0 (k := 0) dX1_outcome_1 (Nat.le_of_ble_eq_true rfl) (zlk hX q307) r4 m5 e6 ?_
  obtain ⟨a10, f11, r12, m13, hw⟩ := hw
  refine z_invV hX hd r12 (ci := 1) rfl rfl m13 dX1_outcome_4 (hC 96 _ zm96 _ _ _ _ hw) q641 q642 q643 zh2 q644 q131 zn96 rfl (Nat.le_of_ble_eq_true rfl) (st := []) rfl (zcs8 (Nat.le_of_ble_eq_true rfl)) rfl (zkI (fun v7 s8 hw => ?_)) (zout hX hR hTb)
  exact z_ireturn hX hR dX1_outcome_7 rfl hw
abbrev cX1_bestMove : ByteArray := prog_1_method_36_code
def yX1_bestMove : MethodName := ⟨RX1, "bestMove", "()I"⟩
def dkwX1_bestMove_0 : List UInt8 := [42, 180, 0, 46, 182, 1, 43, 172]
abbrev dktX1_bestMove_0 : List UInt8 := dkwX1_bestMove_0 ++ []
theorem dksX1_bestMove_0 : cX1_bestMove.data.toList.drop 0 = dktX1_bestMove_0 := by decide +kernel
theorem dX1_bestMove_0 : decode cX1_bestMove 0 = .ok (.aload_n 0, 1) := dk_42 (dk_at dksX1_bestMove_0 0 rfl rfl)
theorem dX1_bestMove_1 : decode cX1_bestMove 1 = .ok (.getfield 46, 3) := dk_180 0 46 (dk_at dksX1_bestMove_0 1 rfl rfl)
theorem dX1_bestMove_4 : decode cX1_bestMove 4 = .ok (.invokevirtual 299, 3) := dk_182 1 43 (dk_at dksX1_bestMove_0 4 rfl rfl)
theorem dX1_bestMove_7 : decode cX1_bestMove 7 = .ok (.ireturn, 1) := dk_172 (dk_at dksX1_bestMove_0 7 rfl rfl)
/-- PackingDuel.bestMove()I -/
def zb36 (G : zPg) (C : zO) (args : List Value) (Q : zQ) (Y : zY) (σ : zS) : Prop := ∃ (a0 : Nat), args = [.ref a0] ∧ (zgR σ (some a0) 0 0 (fun v1 => zrc σ v1 1 (fun a10 => zcl C 100 [.ref a10] Y σ (zqI (fun v7 s8 => Q (some (.int v7)) s8)))))
set_option maxHeartbeats 4000000 in
theorem wk36 {l : Launch} {g : zG} {d : Nat} {C : zO} (hG : zGk g) (hC : zSound l g d C) {args : List Value} {Q : zQ} {Y : zY} {σ : zS} (hw : zb36 (zpg g) C args Q Y σ) : zMet l g (d + 1) (⟨"PackingDuel", "bestMove", "()I"⟩, Cond.code ⟨"PackingDuel", "bestMove", "()I"⟩ prog_1_method_36_code 1 (Option.some FieldType.int)) args σ Q Y := by
  obtain ⟨a0, rfl, hw⟩ := hw
  refine zof hG (by decide +kernel) [false] ⟨rfl, trivial⟩ (Nat.le_of_ble_eq_true rfl) (ls := [some (va_rf (some a0))]) rfl ?_
  intro X hX hR hTb hd1 hd2 hl hg hnm
  subst hl
  subst hg
  have hd : zDep X d := ⟨hd1, hd2⟩
  refine z_aload_n hX dX1_bestMove_0 rfl (i := 0) rfl ?_
  obtain ⟨a2, f3, v1, r4, m5, e6, hw⟩ := hw
  refine z_get hX zc0 (k := 0) dX1_bestMove_1 (Nat.le_of_ble_eq_true rfl) (zlk hX q307) r4 m5 e6 ?_
  obtain ⟨a10, f11, r12, m13, hw⟩ := hw
  refine z_invV hX hd r12 (ci := 1) rfl rfl m13 dX1_bestMove_4 (hC 100 _ zm100 _ _ _ _ hw) q717 q718 q719 zh2 q720 q131 zn100 rfl (Nat.le_of_ble_eq_true rfl) (st := []) rfl (zcs8 (Nat.le_of_ble_eq_true rfl)) rfl (zkI (fun v7 s8 hw => ?_)) (zout hX hR hTb)
  exact z_ireturn hX hR dX1_bestMove_7 rfl hw
abbrev cX1_meanResult : ByteArray := prog_1_method_37_code
def yX1_meanResult : MethodName := ⟨RX1, "meanResult", "()D"⟩
def dkwX1_meanResult_2 : List UInt8 := [135, 42, 180, 0, 46, 182, 0, 156, 135, 111, 175]
abbrev dktX1_meanResult_2 : List UInt8 := dkwX1_meanResult_2 ++ []
def dkwX1_meanResult_1 : List UInt8 := [182, 0, 163, 153, 0, 14, 27, 42, 180, 0, 46, 28, 182, 0, 191, 96, 60, 132, 2, 1, 167, 255, 217, 27]
abbrev dktX1_meanResult_1 : List UInt8 := dkwX1_meanResult_1 ++ dktX1_meanResult_2
def dkwX1_meanResult_0 : List UInt8 := [3, 60, 3, 61, 28, 42, 180, 0, 46, 182, 0, 174, 182, 1, 46, 162, 0, 31, 42, 180, 0, 46, 28]
abbrev dktX1_meanResult_0 : List UInt8 := dkwX1_meanResult_0 ++ dktX1_meanResult_1
theorem dksX1_meanResult_0 : cX1_meanResult.data.toList.drop 0 = dktX1_meanResult_0 := by decide +kernel
theorem dksX1_meanResult_1 : cX1_meanResult.data.toList.drop 23 = dktX1_meanResult_1 := dk_seg dksX1_meanResult_0 23 rfl rfl
theorem dksX1_meanResult_2 : cX1_meanResult.data.toList.drop 47 = dktX1_meanResult_2 := dk_seg dksX1_meanResult_1 24 rfl rfl
theorem dX1_meanResult_0 : decode cX1_meanResult 0 = .ok (.iconst 0, 1) := dk_3 (dk_at dksX1_meanResult_0 0 rfl rfl)
theorem dX1_meanResult_1 : decode cX1_meanResult 1 = .ok (.istore_n 1, 1) := dk_60 (dk_at dksX1_meanResult_0 1 rfl rfl)
theorem dX1_meanResult_2 : decode cX1_meanResult 2 = .ok (.iconst 0, 1) := dk_3 (dk_at dksX1_meanResult_0 2 rfl rfl)
theorem dX1_meanResult_3 : decode cX1_meanResult 3 = .ok (.istore_n 2, 1) := dk_61 (dk_at dksX1_meanResult_0 3 rfl rfl)
theorem dX1_meanResult_4 : decode cX1_meanResult 4 = .ok (.iload_n 2, 1) := dk_28 (dk_at dksX1_meanResult_0 4 rfl rfl)
theorem dX1_meanResult_5 : decode cX1_meanResult 5 = .ok (.aload_n 0, 1) := dk_42 (dk_at dksX1_meanResult_0 5 rfl rfl)
theorem dX1_meanResult_6 : decode cX1_meanResult 6 = .ok (.getfield 46, 3) := dk_180 0 46 (dk_at dksX1_meanResult_0 6 rfl rfl)
theorem dX1_meanResult_9 : decode cX1_meanResult 9 = .ok (.invokevirtual 174, 3) := dk_182 0 174 (dk_at dksX1_meanResult_0 9 rfl rfl)
theorem dX1_meanResult_12 : decode cX1_meanResult 12 = .ok (.invokevirtual 302, 3) := dk_182 1 46 (dk_at dksX1_meanResult_0 12 rfl rfl)
theorem dX1_meanResult_15 : decode cX1_meanResult 15 = .ok (.if_icmp .ge 31, 3) := dk_162 0 31 (dk_at dksX1_meanResult_0 15 rfl rfl)
theorem dX1_meanResult_18 : decode cX1_meanResult 18 = .ok (.aload_n 0, 1) := dk_42 (dk_at dksX1_meanResult_0 18 rfl rfl)
theorem dX1_meanResult_19 : decode cX1_meanResult 19 = .ok (.getfield 46, 3) := dk_180 0 46 (dk_at dksX1_meanResult_0 19 rfl rfl)
theorem dX1_meanResult_22 : decode cX1_meanResult 22 = .ok (.iload_n 2, 1) := dk_28 (dk_at dksX1_meanResult_0 22 rfl rfl)
theorem dX1_meanResult_23 : decode cX1_meanResult 23 = .ok (.invokevirtual 163, 3) := dk_182 0 163 (dk_at dksX1_meanResult_1 0 rfl rfl)
theorem dX1_meanResult_26 : decode cX1_meanResult 26 = .ok (.ifCond .eq 14, 3) := dk_153 0 14 (dk_at dksX1_meanResult_1 3 rfl rfl)
theorem dX1_meanResult_29 : decode cX1_meanResult 29 = .ok (.iload_n 1, 1) := dk_27 (dk_at dksX1_meanResult_1 6 rfl rfl)
theorem dX1_meanResult_30 : decode cX1_meanResult 30 = .ok (.aload_n 0, 1) := dk_42 (dk_at dksX1_meanResult_1 7 rfl rfl)
theorem dX1_meanResult_31 : decode cX1_meanResult 31 = .ok (.getfield 46, 3) := dk_180 0 46 (dk_at dksX1_meanResult_1 8 rfl rfl)
theorem dX1_meanResult_34 : decode cX1_meanResult 34 = .ok (.iload_n 2, 1) := dk_28 (dk_at dksX1_meanResult_1 11 rfl rfl)
theorem dX1_meanResult_35 : decode cX1_meanResult 35 = .ok (.invokevirtual 191, 3) := dk_182 0 191 (dk_at dksX1_meanResult_1 12 rfl rfl)
theorem dX1_meanResult_38 : decode cX1_meanResult 38 = .ok (.iadd, 1) := dk_96 (dk_at dksX1_meanResult_1 15 rfl rfl)
theorem dX1_meanResult_39 : decode cX1_meanResult 39 = .ok (.istore_n 1, 1) := dk_60 (dk_at dksX1_meanResult_1 16 rfl rfl)
theorem dX1_meanResult_40 : decode cX1_meanResult 40 = .ok (.iinc 2 1, 3) := dk_132 2 1 (dk_at dksX1_meanResult_1 17 rfl rfl)
theorem dX1_meanResult_43 : decode cX1_meanResult 43 = .ok (.goto (-39), 3) := dk_167 255 217 (dk_at dksX1_meanResult_1 20 rfl rfl)
theorem dX1_meanResult_46 : decode cX1_meanResult 46 = .ok (.iload_n 1, 1) := dk_27 (dk_at dksX1_meanResult_1 23 rfl rfl)
theorem dX1_meanResult_47 : decode cX1_meanResult 47 = .ok (.i2d, 1) := dk_135 (dk_at dksX1_meanResult_2 0 rfl rfl)
theorem dX1_meanResult_48 : decode cX1_meanResult 48 = .ok (.aload_n 0, 1) := dk_42 (dk_at dksX1_meanResult_2 1 rfl rfl)
theorem dX1_meanResult_49 : decode cX1_meanResult 49 = .ok (.getfield 46, 3) := dk_180 0 46 (dk_at dksX1_meanResult_2 2 rfl rfl)
theorem dX1_meanResult_52 : decode cX1_meanResult 52 = .ok (.invokevirtual 156, 3) := dk_182 0 156 (dk_at dksX1_meanResult_2 5 rfl rfl)
theorem dX1_meanResult_55 : decode cX1_meanResult 55 = .ok (.i2d, 1) := dk_135 (dk_at dksX1_meanResult_2 8 rfl rfl)
theorem dX1_meanResult_56 : decode cX1_meanResult 56 = .ok (.ddiv, 1) := dk_111 (dk_at dksX1_meanResult_2 9 rfl rfl)
theorem dX1_meanResult_57 : decode cX1_meanResult 57 = .ok (.dreturn, 1) := dk_175 (dk_at dksX1_meanResult_2 10 rfl rfl)
/-- PackingDuel.meanResult()D -/
def zb37 (G : zPg) (C : zO) (args : List Value) (Q : zQ) (Y : zY) (σ : zS) : Prop := ∃ (a0 : Nat), args = [.ref a0] ∧ (∃ n, zIt (fun _ _ _ => False) (fun rec4 (p1 : Int32) (p2 : Int32) (s3 : zS) => zgR s3 (some a0) 0 0 (fun v5 => zrc s3 v5 1 (fun a14 => zcl C 83 [.ref a14] Y s3 (zqR (fun v11 s12 => zrc s12 v11 14 (fun a21 => zcl C 452 [.ref a21] Y s12 (zqI (fun v18 s19 => ((v18 ≤ p2) → zgR s19 (some a0) 0 0 (fun v26 => zrc s19 v26 1 (fun a35 => zcl C 103 [.ref a35] Y s19 (zqI (fun v32 s33 => (vf_n64 (FP.ddiv (FP.i2d p1) (FP.i2d v32)) ∧ Q (some (.double (FP.ddiv (FP.i2d p1) (FP.i2d v32)))) s33)))))) ∧ ((¬ v18 ≤ p2) → zgR s19 (some a0) 0 0 (fun v39 => zrc s19 v39 1 (fun a48 => zcl C 84 [.ref a48, .int p2] Y s19 (zqI (fun v45 s46 => zJ (fun (p52 : Int32) (s53 : zS) => (∀ v55 : Int32, v55 = p2 + (1 : Int32) → rec4 p52 v55 s53)) (fun (j54 : Int32 → zS → Prop) => ((v45 = 0) → j54 p1 s46) ∧ ((¬ v45 = 0) → zgR s46 (some a0) 0 0 (fun v58 => zrc s46 v58 1 (fun a67 => zcl C 102 [.ref a67, .int p2] Y s46 (zqI (fun v64 s65 => j54 (p1 + v64) s65))))))))))))))))))) n (0 : Int32) (0 : Int32) σ)
set_option maxHeartbeats 4000000 in
theorem wk37 {l : Launch} {g : zG} {d : Nat} {C : zO} (hG : zGk g) (hC : zSound l g d C) {args : List Value} {Q : zQ} {Y : zY} {σ : zS} (hw : zb37 (zpg g) C args Q Y σ) : zMet l g (d + 1) (⟨"PackingDuel", "meanResult", "()D"⟩, Cond.code ⟨"PackingDuel", "meanResult", "()D"⟩ prog_1_method_37_code 3 (Option.some FieldType.double)) args σ Q Y := by
  obtain ⟨a0, rfl, hw⟩ := hw
  refine zof hG (by decide +kernel) [false] ⟨rfl, trivial⟩ (Nat.le_of_ble_eq_true rfl) (ls := [some (va_rf (some a0)), none, none]) rfl ?_
  intro X hX hR hTb hd1 hd2 hl hg hnm
  subst hl
  subst hg
  have hd : zDep X d := ⟨hd1, hd2⟩
  refine z_iconst hX (v := (0 : Int32)) dX1_meanResult_0 (by decide) ?_
  refine z_istore_n hX dX1_meanResult_1 rfl (i := 1) (Nat.le_of_ble_eq_true rfl) (zc_rf _) (ls2 := [some (va_rf (some a0)), some (.int (0 : Int32)), none]) rfl ?_
  refine z_iconst hX (v := (0 : Int32)) dX1_meanResult_2 (by decide) ?_
  refine z_istore_n hX dX1_meanResult_3 rfl (i := 2) (Nat.le_of_ble_eq_true rfl) rfl (ls2 := [some (va_rf (some a0)), some (.int (0 : Int32)), some (.int (0 : Int32))]) rfl ?_
  obtain ⟨n71, hw⟩ := hw
  refine zIt_w (P := fun (j : Int32 → Int32 → zS → Prop) => ∀ (p1 : Int32) (p2 : Int32) (s3 : zS), j p1 p2 s3 → zW X s3 4 [some (va_rf (some a0)), some (.int p1), some (.int p2)] []) (fun _ _ _ h => h.elim) (fun rec4 hrec4 p1 p2 s3 hw => ?_) n71 _ _ _ hw
  refine z_iload_n hX dX1_meanResult_4 rfl (i := 2) rfl ?_
  refine z_aload_n hX dX1_meanResult_5 rfl (i := 0) rfl ?_
  obtain ⟨a6, f7, v5, r8, m9, e10, hw⟩ := hw
  refine z_get hX zc0 (k := 0) dX1_meanResult_6 (Nat.le_of_ble_eq_true rfl) (zlk hX q307) r8 m9 e10 ?_
  obtain ⟨a14, f15, r16, m17, hw⟩ := hw
  refine z_invV hX hd r16 (ci := 1) rfl rfl m17 dX1_meanResult_9 (hC 83 _ zm83 _ _ _ _ hw) q734 q352 q353 zh2 q354 q131 zn83 rfl (Nat.le_of_ble_eq_true rfl) (st := [.int p2]) rfl (zcs8 (Nat.le_of_ble_eq_true rfl)) rfl (zkR (fun v11 s12 hw => ?_)) (zout hX hR hTb)
  obtain ⟨a21, f22, r23, m24, hw⟩ := hw
  refine z_invV hX hd r23 (ci := 14) rfl rfl m24 dX1_meanResult_12 (hC 452 _ zm452 _ _ _ _ hw) q735 q396 q397 zh30 q398 q161 zn452 rfl (Nat.le_of_ble_eq_true rfl) (st := [.int p2]) rfl (zcs8 (Nat.le_of_ble_eq_true rfl)) rfl (zkI (fun v18 s19 hw => ?_)) (zout hX hR hTb)
  refine z_icmp_ge hX dX1_meanResult_15 (tgt := 46) rfl (fun c25 => ?_) (fun c25 => ?_)
  · have hw := hw.1 c25
    refine z_iload_n hX dX1_meanResult_46 rfl (i := 1) rfl ?_
    refine z_i2d hX dX1_meanResult_47 ?_
    refine z_aload_n hX dX1_meanResult_48 rfl (i := 0) rfl ?_
    obtain ⟨a27, f28, v26, r29, m30, e31, hw⟩ := hw
    refine z_get hX zc0 (k := 0) dX1_meanResult_49 (Nat.le_of_ble_eq_true rfl) (zlk hX q307) r29 m30 e31 ?_
    obtain ⟨a35, f36, r37, m38, hw⟩ := hw
    refine z_invV hX hd r37 (ci := 1) rfl rfl m38 dX1_meanResult_52 (hC 103 _ zm103 _ _ _ _ hw) q741 q742 q743 zh2 q744 q131 zn103 rfl (Nat.le_of_ble_eq_true rfl) (st := [.double (FP.i2d p1)]) rfl (zcs8 (Nat.le_of_ble_eq_true rfl)) rfl (zkI (fun v32 s33 hw => ?_)) (zout hX hR hTb)
    refine z_i2d hX dX1_meanResult_55 ?_
    refine z_ddiv hX dX1_meanResult_56 hw.1 ?_
    have hw := hw.2
    exact z_dreturn hX hR dX1_meanResult_57 hw
  · have hw := hw.2 c25
    refine z_aload_n hX dX1_meanResult_18 rfl (i := 0) rfl ?_
    obtain ⟨a40, f41, v39, r42, m43, e44, hw⟩ := hw
    refine z_get hX zc0 (k := 0) dX1_meanResult_19 (Nat.le_of_ble_eq_true rfl) (zlk hX q307) r42 m43 e44 ?_
    refine z_iload_n hX dX1_meanResult_22 rfl (i := 2) rfl ?_
    obtain ⟨a48, f49, r50, m51, hw⟩ := hw
    refine z_invV hX hd r50 (ci := 1) rfl rfl m51 dX1_meanResult_23 (hC 84 _ zm84 _ _ _ _ hw) q736 q400 q401 zh2 q402 q131 zn84 rfl (Nat.le_of_ble_eq_true rfl) (st := []) rfl (zcs8 (Nat.le_of_ble_eq_true rfl)) rfl (zkI (fun v45 s46 hw => ?_)) (zout hX hR hTb)
    refine zJ_w (P := fun (j : Int32 → zS → Prop) => ∀ (p52 : Int32) (s53 : zS), j p52 s53 → zW X s53 40 [some (va_rf (some a0)), some (.int p52), some (.int p2)] []) hw (fun p52 s53 hw => ?_) (fun j54 hj54 hw => ?_)
    · obtain ⟨v55, e56⟩ : ∃ y : Int32, y = p2 + (1 : Int32) := ⟨_, rfl⟩
      refine z_iinc hX dX1_meanResult_40 (i := 2) (v := v55) rfl (by rw [e56]; rfl) (Nat.le_of_ble_eq_true rfl) rfl (ls2 := [some (va_rf (some a0)), some (.int p52), some (.int v55)]) rfl ?_
      have hw := hw v55 e56
      refine z_goto hX dX1_meanResult_43 (tgt := 4) rfl ?_
      exact hrec4 _ _ _ hw
    · refine z_if_eq hX dX1_meanResult_26 (tgt := 40) rfl (fun c57 => ?_) (fun c57 => ?_)
      · have hw := hw.1 c57
        exact hj54 _ _ hw
      · have hw := hw.2 c57
        refine z_iload_n hX dX1_meanResult_29 rfl (i := 1) rfl ?_
        refine z_aload_n hX dX1_meanResult_30 rfl (i := 0) rfl ?_
        obtain ⟨a59, f60, v58, r61, m62, e63, hw⟩ := hw
        refine z_get hX zc0 (k := 0) dX1_meanResult_31 (Nat.le_of_ble_eq_true rfl) (zlk hX q307) r61 m62 e63 ?_
        refine z_iload_n hX dX1_meanResult_34 rfl (i := 2) rfl ?_
        obtain ⟨a67, f68, r69, m70, hw⟩ := hw
        refine z_invV hX hd r69 (ci := 1) rfl rfl m70 dX1_meanResult_35 (hC 102 _ zm102 _ _ _ _ hw) q737 q738 q739 zh2 q740 q131 zn102 rfl (Nat.le_of_ble_eq_true rfl) (st := [.int p1]) rfl (zcs8 (Nat.le_of_ble_eq_true rfl)) rfl (zkI (fun v64 s65 hw => ?_)) (zout hX hR hTb)
        refine z_iadd hX dX1_meanResult_38 ?_
        refine z_istore_n hX dX1_meanResult_39 rfl (i := 1) (Nat.le_of_ble_eq_true rfl) (zc_rf _) (ls2 := [some (va_rf (some a0)), some (.int (p1 + v64)), some (.int p2)]) rfl ?_
        exact hj54 _ _ hw
abbrev cX1_safeShare : ByteArray := prog_1_method_38_code
def yX1_safeShare : MethodName := ⟨RX1, "safeShare", "()F"⟩
def dkwX1_safeShare_2 : List UInt8 := [184, 0, 146, 96, 60, 132, 2, 1, 167, 255, 206, 27, 134, 42, 180, 0, 46, 182, 0, 156, 134, 110, 174]
abbrev dktX1_safeShare_2 : List UInt8 := dkwX1_safeShare_2 ++ []
def dkwX1_safeShare_1 : List UInt8 := [182, 0, 163, 153, 0, 25, 27, 42, 180, 0, 46, 28, 182, 0, 187, 154, 0, 7, 4, 167, 0, 4, 3]
abbrev dktX1_safeShare_1 : List UInt8 := dkwX1_safeShare_1 ++ dktX1_safeShare_2
def dkwX1_safeShare_0 : List UInt8 := [3, 60, 3, 61, 28, 42, 180, 0, 46, 182, 0, 174, 182, 1, 46, 162, 0, 42, 42, 180, 0, 46, 28]
abbrev dktX1_safeShare_0 : List UInt8 := dkwX1_safeShare_0 ++ dktX1_safeShare_1
theorem dksX1_safeShare_0 : cX1_safeShare.data.toList.drop 0 = dktX1_safeShare_0 := by decide +kernel
theorem dksX1_safeShare_1 : cX1_safeShare.data.toList.drop 23 = dktX1_safeShare_1 := dk_seg dksX1_safeShare_0 23 rfl rfl
theorem dksX1_safeShare_2 : cX1_safeShare.data.toList.drop 46 = dktX1_safeShare_2 := dk_seg dksX1_safeShare_1 23 rfl rfl
theorem dX1_safeShare_0 : decode cX1_safeShare 0 = .ok (.iconst 0, 1) := dk_3 (dk_at dksX1_safeShare_0 0 rfl rfl)
theorem dX1_safeShare_1 : decode cX1_safeShare 1 = .ok (.istore_n 1, 1) := dk_60 (dk_at dksX1_safeShare_0 1 rfl rfl)
theorem dX1_safeShare_2 : decode cX1_safeShare 2 = .ok (.iconst 0, 1) := dk_3 (dk_at dksX1_safeShare_0 2 rfl rfl)
theorem dX1_safeShare_3 : decode cX1_safeShare 3 = .ok (.istore_n 2, 1) := dk_61 (dk_at dksX1_safeShare_0 3 rfl rfl)
theorem dX1_safeShare_4 : decode cX1_safeShare 4 = .ok (.iload_n 2, 1) := dk_28 (dk_at dksX1_safeShare_0 4 rfl rfl)
theorem dX1_safeShare_5 : decode cX1_safeShare 5 = .ok (.aload_n 0, 1) := dk_42 (dk_at dksX1_safeShare_0 5 rfl rfl)
theorem dX1_safeShare_6 : decode cX1_safeShare 6 = .ok (.getfield 46, 3) := dk_180 0 46 (dk_at dksX1_safeShare_0 6 rfl rfl)
theorem dX1_safeShare_9 : decode cX1_safeShare 9 = .ok (.invokevirtual 174, 3) := dk_182 0 174 (dk_at dksX1_safeShare_0 9 rfl rfl)
theorem dX1_safeShare_12 : decode cX1_safeShare 12 = .ok (.invokevirtual 302, 3) := dk_182 1 46 (dk_at dksX1_safeShare_0 12 rfl rfl)
theorem dX1_safeShare_15 : decode cX1_safeShare 15 = .ok (.if_icmp .ge 42, 3) := dk_162 0 42 (dk_at dksX1_safeShare_0 15 rfl rfl)
theorem dX1_safeShare_18 : decode cX1_safeShare 18 = .ok (.aload_n 0, 1) := dk_42 (dk_at dksX1_safeShare_0 18 rfl rfl)
theorem dX1_safeShare_19 : decode cX1_safeShare 19 = .ok (.getfield 46, 3) := dk_180 0 46 (dk_at dksX1_safeShare_0 19 rfl rfl)
theorem dX1_safeShare_22 : decode cX1_safeShare 22 = .ok (.iload_n 2, 1) := dk_28 (dk_at dksX1_safeShare_0 22 rfl rfl)
theorem dX1_safeShare_23 : decode cX1_safeShare 23 = .ok (.invokevirtual 163, 3) := dk_182 0 163 (dk_at dksX1_safeShare_1 0 rfl rfl)
theorem dX1_safeShare_26 : decode cX1_safeShare 26 = .ok (.ifCond .eq 25, 3) := dk_153 0 25 (dk_at dksX1_safeShare_1 3 rfl rfl)
theorem dX1_safeShare_29 : decode cX1_safeShare 29 = .ok (.iload_n 1, 1) := dk_27 (dk_at dksX1_safeShare_1 6 rfl rfl)
theorem dX1_safeShare_30 : decode cX1_safeShare 30 = .ok (.aload_n 0, 1) := dk_42 (dk_at dksX1_safeShare_1 7 rfl rfl)
theorem dX1_safeShare_31 : decode cX1_safeShare 31 = .ok (.getfield 46, 3) := dk_180 0 46 (dk_at dksX1_safeShare_1 8 rfl rfl)
theorem dX1_safeShare_34 : decode cX1_safeShare 34 = .ok (.iload_n 2, 1) := dk_28 (dk_at dksX1_safeShare_1 11 rfl rfl)
theorem dX1_safeShare_35 : decode cX1_safeShare 35 = .ok (.invokevirtual 187, 3) := dk_182 0 187 (dk_at dksX1_safeShare_1 12 rfl rfl)
theorem dX1_safeShare_38 : decode cX1_safeShare 38 = .ok (.ifCond .ne 7, 3) := dk_154 0 7 (dk_at dksX1_safeShare_1 15 rfl rfl)
theorem dX1_safeShare_41 : decode cX1_safeShare 41 = .ok (.iconst 1, 1) := dk_4 (dk_at dksX1_safeShare_1 18 rfl rfl)
theorem dX1_safeShare_42 : decode cX1_safeShare 42 = .ok (.goto 4, 3) := dk_167 0 4 (dk_at dksX1_safeShare_1 19 rfl rfl)
theorem dX1_safeShare_45 : decode cX1_safeShare 45 = .ok (.iconst 0, 1) := dk_3 (dk_at dksX1_safeShare_1 22 rfl rfl)
theorem dX1_safeShare_46 : decode cX1_safeShare 46 = .ok (.invokestatic 146, 3) := dk_184 0 146 (dk_at dksX1_safeShare_2 0 rfl rfl)
theorem dX1_safeShare_49 : decode cX1_safeShare 49 = .ok (.iadd, 1) := dk_96 (dk_at dksX1_safeShare_2 3 rfl rfl)
theorem dX1_safeShare_50 : decode cX1_safeShare 50 = .ok (.istore_n 1, 1) := dk_60 (dk_at dksX1_safeShare_2 4 rfl rfl)
theorem dX1_safeShare_51 : decode cX1_safeShare 51 = .ok (.iinc 2 1, 3) := dk_132 2 1 (dk_at dksX1_safeShare_2 5 rfl rfl)
theorem dX1_safeShare_54 : decode cX1_safeShare 54 = .ok (.goto (-50), 3) := dk_167 255 206 (dk_at dksX1_safeShare_2 8 rfl rfl)
theorem dX1_safeShare_57 : decode cX1_safeShare 57 = .ok (.iload_n 1, 1) := dk_27 (dk_at dksX1_safeShare_2 11 rfl rfl)
theorem dX1_safeShare_58 : decode cX1_safeShare 58 = .ok (.i2f, 1) := dk_134 (dk_at dksX1_safeShare_2 12 rfl rfl)
theorem dX1_safeShare_59 : decode cX1_safeShare 59 = .ok (.aload_n 0, 1) := dk_42 (dk_at dksX1_safeShare_2 13 rfl rfl)
theorem dX1_safeShare_60 : decode cX1_safeShare 60 = .ok (.getfield 46, 3) := dk_180 0 46 (dk_at dksX1_safeShare_2 14 rfl rfl)
theorem dX1_safeShare_63 : decode cX1_safeShare 63 = .ok (.invokevirtual 156, 3) := dk_182 0 156 (dk_at dksX1_safeShare_2 17 rfl rfl)
theorem dX1_safeShare_66 : decode cX1_safeShare 66 = .ok (.i2f, 1) := dk_134 (dk_at dksX1_safeShare_2 20 rfl rfl)
theorem dX1_safeShare_67 : decode cX1_safeShare 67 = .ok (.fdiv, 1) := dk_110 (dk_at dksX1_safeShare_2 21 rfl rfl)
theorem dX1_safeShare_68 : decode cX1_safeShare 68 = .ok (.freturn, 1) := dk_174 (dk_at dksX1_safeShare_2 22 rfl rfl)
/-- PackingDuel.safeShare()F -/
def zb38 (G : zPg) (C : zO) (args : List Value) (Q : zQ) (Y : zY) (σ : zS) : Prop := ∃ (a0 : Nat), args = [.ref a0] ∧ (∃ n, zIt (fun _ _ _ => False) (fun rec4 (p1 : Int32) (p2 : Int32) (s3 : zS) => zgR s3 (some a0) 0 0 (fun v5 => zrc s3 v5 1 (fun a14 => zcl C 83 [.ref a14] Y s3 (zqR (fun v11 s12 => zrc s12 v11 14 (fun a21 => zcl C 452 [.ref a21] Y s12 (zqI (fun v18 s19 => ((v18 ≤ p2) → zgR s19 (some a0) 0 0 (fun v26 => zrc s19 v26 1 (fun a35 => zcl C 103 [.ref a35] Y s19 (zqI (fun v32 s33 => (vf_n32 (FP.fdiv (FP.i2f p1) (FP.i2f v32)) ∧ Q (some (.float (FP.fdiv (FP.i2f p1) (FP.i2f v32)))) s33)))))) ∧ ((¬ v18 ≤ p2) → zgR s19 (some a0) 0 0 (fun v39 => zrc s19 v39 1 (fun a48 => zcl C 84 [.ref a48, .int p2] Y s19 (zqI (fun v45 s46 => zJ (fun (p52 : Int32) (s53 : zS) => (∀ v55 : Int32, v55 = p2 + (1 : Int32) → rec4 p52 v55 s53)) (fun (j54 : Int32 → zS → Prop) => ((v45 = 0) → j54 p1 s46) ∧ ((¬ v45 = 0) → zgR s46 (some a0) 0 0 (fun v58 => zrc s46 v58 1 (fun a67 => zcl C 104 [.ref a67, .int p2] Y s46 (zqI (fun v64 s65 => zJ (fun (p71 : Int32) (s72 : zS) => zcl C 27 [.int p71] Y s72 (zqI (fun v74 s75 => j54 (p1 + v74) s75))) (fun (j73 : Int32 → zS → Prop) => ((¬ v64 = 0) → j73 (0 : Int32) s65) ∧ ((v64 = 0) → j73 (1 : Int32) s65))))))))))))))))))))) n (0 : Int32) (0 : Int32) σ)
set_option maxHeartbeats 4000000 in
theorem wk38 {l : Launch} {g : zG} {d : Nat} {C : zO} (hG : zGk g) (hC : zSound l g d C) {args : List Value} {Q : zQ} {Y : zY} {σ : zS} (hw : zb38 (zpg g) C args Q Y σ) : zMet l g (d + 1) (⟨"PackingDuel", "safeShare", "()F"⟩, Cond.code ⟨"PackingDuel", "safeShare", "()F"⟩ prog_1_method_38_code 3 (Option.some FieldType.float)) args σ Q Y := by
  obtain ⟨a0, rfl, hw⟩ := hw
  refine zof hG (by decide +kernel) [false] ⟨rfl, trivial⟩ (Nat.le_of_ble_eq_true rfl) (ls := [some (va_rf (some a0)), none, none]) rfl ?_
  intro X hX hR hTb hd1 hd2 hl hg hnm
  subst hl
  subst hg
  have hd : zDep X d := ⟨hd1, hd2⟩
  refine z_iconst hX (v := (0 : Int32)) dX1_safeShare_0 (by decide) ?_
  refine z_istore_n hX dX1_safeShare_1 rfl (i := 1) (Nat.le_of_ble_eq_true rfl) (zc_rf _) (ls2 := [some (va_rf (some a0)), some (.int (0 : Int32)), none]) rfl ?_
  refine z_iconst hX (v := (0 : Int32)) dX1_safeShare_2 (by decide) ?_
  refine z_istore_n hX dX1_safeShare_3 rfl (i := 2) (Nat.le_of_ble_eq_true rfl) rfl (ls2 := [some (va_rf (some a0)), some (.int (0 : Int32)), some (.int (0 : Int32))]) rfl ?_
  obtain ⟨n78, hw⟩ := hw
  refine zIt_w (P := fun (j : Int32 → Int32 → zS → Prop) => ∀ (p1 : Int32) (p2 : Int32) (s3 : zS), j p1 p2 s3 → zW X s3 4 [some (va_rf (some a0)), some (.int p1), some (.int p2)] []) (fun _ _ _ h => h.elim) (fun rec4 hrec4 p1 p2 s3 hw => ?_) n78 _ _ _ hw
  refine z_iload_n hX dX1_safeShare_4 rfl (i := 2) rfl ?_
  refine z_aload_n hX dX1_safeShare_5 rfl (i := 0) rfl ?_
  obtain ⟨a6, f7, v5, r8, m9, e10, hw⟩ := hw
  refine z_get hX zc0 (k := 0) dX1_safeShare_6 (Nat.le_of_ble_eq_true rfl) (zlk hX q307) r8 m9 e10 ?_
  obtain ⟨a14, f15, r16, m17, hw⟩ := hw
  refine z_invV hX hd r16 (ci := 1) rfl rfl m17 dX1_safeShare_9 (hC 83 _ zm83 _ _ _ _ hw) q734 q352 q353 zh2 q354 q131 zn83 rfl (Nat.le_of_ble_eq_true rfl) (st := [.int p2]) rfl (zcs8 (Nat.le_of_ble_eq_true rfl)) rfl (zkR (fun v11 s12 hw => ?_)) (zout hX hR hTb)
  obtain ⟨a21, f22, r23, m24, hw⟩ := hw
  refine z_invV hX hd r23 (ci := 14) rfl rfl m24 dX1_safeShare_12 (hC 452 _ zm452 _ _ _ _ hw) q735 q396 q397 zh30 q398 q161 zn452 rfl (Nat.le_of_ble_eq_true rfl) (st := [.int p2]) rfl (zcs8 (Nat.le_of_ble_eq_true rfl)) rfl (zkI (fun v18 s19 hw => ?_)) (zout hX hR hTb)
  refine z_icmp_ge hX dX1_safeShare_15 (tgt := 57) rfl (fun c25 => ?_) (fun c25 => ?_)
  · have hw := hw.1 c25
    refine z_iload_n hX dX1_safeShare_57 rfl (i := 1) rfl ?_
    refine z_i2f hX dX1_safeShare_58 ?_
    refine z_aload_n hX dX1_safeShare_59 rfl (i := 0) rfl ?_
    obtain ⟨a27, f28, v26, r29, m30, e31, hw⟩ := hw
    refine z_get hX zc0 (k := 0) dX1_safeShare_60 (Nat.le_of_ble_eq_true rfl) (zlk hX q307) r29 m30 e31 ?_
    obtain ⟨a35, f36, r37, m38, hw⟩ := hw
    refine z_invV hX hd r37 (ci := 1) rfl rfl m38 dX1_safeShare_63 (hC 103 _ zm103 _ _ _ _ hw) q741 q742 q743 zh2 q744 q131 zn103 rfl (Nat.le_of_ble_eq_true rfl) (st := [.float (FP.i2f p1)]) rfl (zcs8 (Nat.le_of_ble_eq_true rfl)) rfl (zkI (fun v32 s33 hw => ?_)) (zout hX hR hTb)
    refine z_i2f hX dX1_safeShare_66 ?_
    refine z_fdiv hX dX1_safeShare_67 hw.1 ?_
    have hw := hw.2
    exact z_freturn hX hR dX1_safeShare_68 hw
  · have hw := hw.2 c25
    refine z_aload_n hX dX1_safeShare_18 rfl (i := 0) rfl ?_
    obtain ⟨a40, f41, v39, r42, m43, e44, hw⟩ := hw
    refine z_get hX zc0 (k := 0) dX1_safeShare_19 (Nat.le_of_ble_eq_true rfl) (zlk hX q307) r42 m43 e44 ?_
    refine z_iload_n hX dX1_safeShare_22 rfl (i := 2) rfl ?_
    obtain ⟨a48, f49, r50, m51, hw⟩ := hw
    refine z_invV hX hd r50 (ci := 1) rfl rfl m51 dX1_safeShare_23 (hC 84 _ zm84 _ _ _ _ hw) q736 q400 q401 zh2 q402 q131 zn84 rfl (Nat.le_of_ble_eq_true rfl) (st := []) rfl (zcs8 (Nat.le_of_ble_eq_true rfl)) rfl (zkI (fun v45 s46 hw => ?_)) (zout hX hR hTb)
    refine zJ_w (P := fun (j : Int32 → zS → Prop) => ∀ (p52 : Int32) (s53 : zS), j p52 s53 → zW X s53 51 [some (va_rf (some a0)), some (.int p52), some (.int p2)] []) hw (fun p52 s53 hw => ?_) (fun j54 hj54 hw => ?_)
    · obtain ⟨v55, e56⟩ : ∃ y : Int32, y = p2 + (1 : Int32) := ⟨_, rfl⟩
      refine z_iinc hX dX1_safeShare_51 (i := 2) (v := v55) rfl (by rw [e56]; rfl) (Nat.le_of_ble_eq_true rfl) rfl (ls2 := [some (va_rf (some a0)), some (.int p52), some (.int v55)]) rfl ?_
      have hw := hw v55 e56
      refine z_goto hX dX1_safeShare_54 (tgt := 4) rfl ?_
      exact hrec4 _ _ _ hw
    · refine z_if_eq hX dX1_safeShare_26 (tgt := 51) rfl (fun c57 => ?_) (fun c57 => ?_)
      · have hw := hw.1 c57
        exact hj54 _ _ hw
      · have hw := hw.2 c57
        refine z_iload_n hX dX1_safeShare_29 rfl (i := 1) rfl ?_
        refine z_aload_n hX dX1_safeShare_30 rfl (i := 0) rfl ?_
        obtain ⟨a59, f60, v58, r61, m62, e63, hw⟩ := hw
        refine z_get hX zc0 (k := 0) dX1_safeShare_31 (Nat.le_of_ble_eq_true rfl) (zlk hX q307) r61 m62 e63 ?_
        refine z_iload_n hX dX1_safeShare_34 rfl (i := 2) rfl ?_
        obtain ⟨a67, f68, r69, m70, hw⟩ := hw
        refine z_invV hX hd r69 (ci := 1) rfl rfl m70 dX1_safeShare_35 (hC 104 _ zm104 _ _ _ _ hw) q749 q750 q751 zh2 q752 q131 zn104 rfl (Nat.le_of_ble_eq_true rfl) (st := [.int p1]) rfl (zcs8 (Nat.le_of_ble_eq_true rfl)) rfl (zkI (fun v64 s65 hw => ?_)) (zout hX hR hTb)
        refine zJ_w (P := fun (j : Int32 → zS → Prop) => ∀ (p71 : Int32) (s72 : zS), j p71 s72 → zW X s72 46 [some (va_rf (some a0)), none, some (.int p2)] [.int p71, .int p1]) hw (fun p71 s72 hw => ?_) (fun j73 hj73 hw => ?_)
        · refine z_invS hX hd dX1_safeShare_46 (hC 27 _ zm27 _ _ _ _ hw) q753 q446 zh1 q447 q130 zn27 rfl (Nat.le_of_ble_eq_true rfl) (st := [.int p1]) rfl (zcs8 (Nat.le_of_ble_eq_true rfl)) rfl (zkI (fun v74 s75 hw => ?_)) (zout hX hR hTb)
          refine z_iadd hX dX1_safeShare_49 ?_
          refine z_istore_n hX dX1_safeShare_50 rfl (i := 1) (Nat.le_of_ble_eq_true rfl) (zc_rf _) (ls2 := [some (va_rf (some a0)), some (.int (p1 + v74)), some (.int p2)]) rfl ?_
          exact hj54 _ _ hw
        · refine z_if_ne hX dX1_safeShare_38 (tgt := 45) rfl (fun c77 => ?_) (fun c77 => ?_)
          · have hw := hw.1 c77
            refine z_iconst hX (v := (0 : Int32)) dX1_safeShare_45 (by decide) ?_
            refine z_sub (ls' := [some (va_rf (some a0)), none, some (.int p2)]) (zsS (zsN (zsS (zs0)))) ?_
            exact hj73 _ _ hw
          · have hw := hw.2 c77
            refine z_iconst hX (v := (1 : Int32)) dX1_safeShare_41 (by decide) ?_
            refine z_goto hX dX1_safeShare_42 (tgt := 46) rfl ?_
            refine z_sub (ls' := [some (va_rf (some a0)), none, some (.int p2)]) (zsS (zsN (zsS (zs0)))) ?_
            exact hj73 _ _ hw
abbrev cX1_setFriendly : ByteArray := prog_1_method_44_code
def yX1_setFriendly : MethodName := ⟨RX1, "setFriendly", "(Z)Z"⟩
def dkwX1_setFriendly_1 : List UInt8 := [182, 1, 61, 28, 172]
abbrev dktX1_setFriendly_1 : List UInt8 := dkwX1_setFriendly_1 ++ []
def dkwX1_setFriendly_0 : List UInt8 := [42, 180, 0, 46, 180, 0, 142, 61, 42, 180, 0, 46, 182, 1, 69, 78, 45, 27, 181, 0, 142, 42, 45]
abbrev dktX1_setFriendly_0 : List UInt8 := dkwX1_setFriendly_0 ++ dktX1_setFriendly_1
theorem dksX1_setFriendly_0 : cX1_setFriendly.data.toList.drop 0 = dktX1_setFriendly_0 := by decide +kernel
theorem dksX1_setFriendly_1 : cX1_setFriendly.data.toList.drop 23 = dktX1_setFriendly_1 := dk_seg dksX1_setFriendly_0 23 rfl rfl
theorem dX1_setFriendly_0 : decode cX1_setFriendly 0 = .ok (.aload_n 0, 1) := dk_42 (dk_at dksX1_setFriendly_0 0 rfl rfl)
theorem dX1_setFriendly_1 : decode cX1_setFriendly 1 = .ok (.getfield 46, 3) := dk_180 0 46 (dk_at dksX1_setFriendly_0 1 rfl rfl)
theorem dX1_setFriendly_4 : decode cX1_setFriendly 4 = .ok (.getfield 142, 3) := dk_180 0 142 (dk_at dksX1_setFriendly_0 4 rfl rfl)
theorem dX1_setFriendly_7 : decode cX1_setFriendly 7 = .ok (.istore_n 2, 1) := dk_61 (dk_at dksX1_setFriendly_0 7 rfl rfl)
theorem dX1_setFriendly_8 : decode cX1_setFriendly 8 = .ok (.aload_n 0, 1) := dk_42 (dk_at dksX1_setFriendly_0 8 rfl rfl)
theorem dX1_setFriendly_9 : decode cX1_setFriendly 9 = .ok (.getfield 46, 3) := dk_180 0 46 (dk_at dksX1_setFriendly_0 9 rfl rfl)
theorem dX1_setFriendly_12 : decode cX1_setFriendly 12 = .ok (.invokevirtual 325, 3) := dk_182 1 69 (dk_at dksX1_setFriendly_0 12 rfl rfl)
theorem dX1_setFriendly_15 : decode cX1_setFriendly 15 = .ok (.astore_n 3, 1) := dk_78 (dk_at dksX1_setFriendly_0 15 rfl rfl)
theorem dX1_setFriendly_16 : decode cX1_setFriendly 16 = .ok (.aload_n 3, 1) := dk_45 (dk_at dksX1_setFriendly_0 16 rfl rfl)
theorem dX1_setFriendly_17 : decode cX1_setFriendly 17 = .ok (.iload_n 1, 1) := dk_27 (dk_at dksX1_setFriendly_0 17 rfl rfl)
theorem dX1_setFriendly_18 : decode cX1_setFriendly 18 = .ok (.putfield 142, 3) := dk_181 0 142 (dk_at dksX1_setFriendly_0 18 rfl rfl)
theorem dX1_setFriendly_21 : decode cX1_setFriendly 21 = .ok (.aload_n 0, 1) := dk_42 (dk_at dksX1_setFriendly_0 21 rfl rfl)
theorem dX1_setFriendly_22 : decode cX1_setFriendly 22 = .ok (.aload_n 3, 1) := dk_45 (dk_at dksX1_setFriendly_0 22 rfl rfl)
theorem dX1_setFriendly_23 : decode cX1_setFriendly 23 = .ok (.invokevirtual 317, 3) := dk_182 1 61 (dk_at dksX1_setFriendly_1 0 rfl rfl)
theorem dX1_setFriendly_26 : decode cX1_setFriendly 26 = .ok (.iload_n 2, 1) := dk_28 (dk_at dksX1_setFriendly_1 3 rfl rfl)
theorem dX1_setFriendly_27 : decode cX1_setFriendly 27 = .ok (.ireturn, 1) := dk_172 (dk_at dksX1_setFriendly_1 4 rfl rfl)
/-- PackingDuel.setFriendly(Z)Z -/
def zb39 (G : zPg) (C : zO) (args : List Value) (Q : zQ) (Y : zY) (σ : zS) : Prop := ∃ (a0 : Nat) (x1 : Int32), args = [.ref a0, .int x1] ∧ (zgR σ (some a0) 0 0 (fun v1 => zgI σ v1 1 5 (fun v7 => zgR σ (some a0) 0 0 (fun v13 => zrc σ v13 1 (fun a22 => zcl C 105 [.ref a22] Y σ (zqR (fun v19 s20 => (zbool x1 ∧ zput s20 G.1 v19 1 5 (.int x1) (fun s26 => zrc s26 (some a0) 0 (fun a38 => zcl C 40 [.ref a38, va_rf v19] Y s26 (zqV (fun s36 => zbool v7 ∧ Q (some (.int v7)) s36))))))))))))
set_option maxHeartbeats 4000000 in
theorem wk39 {l : Launch} {g : zG} {d : Nat} {C : zO} (hG : zGk g) (hC : zSound l g d C) {args : List Value} {Q : zQ} {Y : zY} {σ : zS} (hw : zb39 (zpg g) C args Q Y σ) : zMet l g (d + 1) (⟨"PackingDuel", "setFriendly", "(Z)Z"⟩, Cond.code ⟨"PackingDuel", "setFriendly", "(Z)Z"⟩ prog_1_method_44_code 4 (Option.some FieldType.boolean)) args σ Q Y := by
  obtain ⟨a0, x1, rfl, hw⟩ := hw
  refine zof hG (by decide +kernel) [false, false] ⟨rfl, rfl, trivial⟩ (Nat.le_of_ble_eq_true rfl) (ls := [some (va_rf (some a0)), some (.int x1), none, none]) rfl ?_
  intro X hX hR hTb hd1 hd2 hl hg hnm
  subst hl
  subst hg
  have hd : zDep X d := ⟨hd1, hd2⟩
  refine z_aload_n hX dX1_setFriendly_0 rfl (i := 0) rfl ?_
  obtain ⟨a2, f3, v1, r4, m5, e6, hw⟩ := hw
  refine z_get hX zc0 (k := 0) dX1_setFriendly_1 (Nat.le_of_ble_eq_true rfl) (zlk hX q307) r4 m5 e6 ?_
  obtain ⟨a8, f9, v7, r10, m11, e12, hw⟩ := hw
  refine z_get hX zc1 (k := 5) dX1_setFriendly_4 (Nat.le_of_ble_eq_true rfl) (zlkN hX "PackingDuel" q243) r10 m11 e12 ?_
  refine z_istore_n hX dX1_setFriendly_7 rfl (i := 2) (Nat.le_of_ble_eq_true rfl) rfl (ls2 := [some (va_rf (some a0)), some (.int x1), some (.int v7), none]) rfl ?_
  refine z_aload_n hX dX1_setFriendly_8 rfl (i := 0) rfl ?_
  obtain ⟨a14, f15, v13, r16, m17, e18, hw⟩ := hw
  refine z_get hX zc0 (k := 0) dX1_setFriendly_9 (Nat.le_of_ble_eq_true rfl) (zlk hX q307) r16 m17 e18 ?_
  obtain ⟨a22, f23, r24, m25, hw⟩ := hw
  refine z_invV hX hd r24 (ci := 1) rfl rfl m25 dX1_setFriendly_12 (hC 105 _ zm105 _ _ _ _ hw) q758 q759 q760 zh2 q761 q131 zn105 rfl (Nat.le_of_ble_eq_true rfl) (st := []) rfl (zcs8 (Nat.le_of_ble_eq_true rfl)) rfl (zkR (fun v19 s20 hw => ?_)) (zout hX hR hTb)
  refine z_astore_n hX dX1_setFriendly_15 rfl (i := 3) (Nat.le_of_ble_eq_true rfl) rfl (ls2 := [some (va_rf (some a0)), some (.int x1), some (.int v7), some (va_rf v19)]) rfl ?_
  refine z_aload_n hX dX1_setFriendly_16 rfl (i := 3) rfl ?_
  refine z_iload_n hX dX1_setFriendly_17 rfl (i := 1) rfl ?_
  obtain ⟨b34, hw⟩ := hw
  obtain ⟨a28, f29, r30, g31, m32, l33, hw⟩ := hw
  refine z_put hX zc1 (k := 5) dX1_setFriendly_18 (Nat.le_of_ble_eq_true rfl) (zlkN hX "PackingDuel" q243) rfl (zn_z b34) (zf_z b34) r30 g31 m32 l33 (z_nm (fun s26 e27 => ?_))
  have hw := hw s26 e27
  refine z_aload_n hX dX1_setFriendly_21 rfl (i := 0) rfl ?_
  refine z_aload_n hX dX1_setFriendly_22 rfl (i := 3) rfl ?_
  obtain ⟨a38, f39, r40, m41, hw⟩ := hw
  refine z_invV hX hd r40 (ci := 0) rfl rfl m41 dX1_setFriendly_23 (hC 40 _ zm40 _ _ _ _ hw) q838 q840 qs14 zh1 q841 q130 zn40 rfl (Nat.le_of_ble_eq_true rfl) (st := []) rfl (zcs8 (Nat.le_of_ble_eq_true rfl)) rfl (zkV (fun s36 hw => ?_)) (zout hX hR hTb)
  refine z_iload_n hX dX1_setFriendly_26 rfl (i := 2) rfl ?_
  exact z_ireturn hX hR dX1_setFriendly_27 (zn_z hw.1) hw.2
abbrev cX1_record : ByteArray := prog_1_method_39_code
def yX1_record : MethodName := ⟨RX1, "record", "(LPackingDuel$State;)V"⟩
def dkwX1_record_1 : List UInt8 := [42, 180, 0, 46, 182, 1, 54, 42, 43, 181, 0, 46, 177]
abbrev dktX1_record_1 : List UInt8 := dkwX1_record_1 ++ []
def dkwX1_record_0 : List UInt8 := [42, 180, 0, 53, 182, 1, 49, 16, 10, 160, 0, 11, 42, 180, 0, 53, 182, 1, 50, 87, 42, 180, 0, 53]
abbrev dktX1_record_0 : List UInt8 := dkwX1_record_0 ++ dktX1_record_1
theorem dksX1_record_0 : cX1_record.data.toList.drop 0 = dktX1_record_0 := by decide +kernel
theorem dksX1_record_1 : cX1_record.data.toList.drop 24 = dktX1_record_1 := dk_seg dksX1_record_0 24 rfl rfl
theorem dX1_record_0 : decode cX1_record 0 = .ok (.aload_n 0, 1) := dk_42 (dk_at dksX1_record_0 0 rfl rfl)
theorem dX1_record_1 : decode cX1_record 1 = .ok (.getfield 53, 3) := dk_180 0 53 (dk_at dksX1_record_0 1 rfl rfl)
theorem dX1_record_4 : decode cX1_record 4 = .ok (.invokevirtual 305, 3) := dk_182 1 49 (dk_at dksX1_record_0 4 rfl rfl)
theorem dX1_record_7 : decode cX1_record 7 = .ok (.bipush 10, 2) := dk_16 10 (dk_at dksX1_record_0 7 rfl rfl)
theorem dX1_record_9 : decode cX1_record 9 = .ok (.if_icmp .ne 11, 3) := dk_160 0 11 (dk_at dksX1_record_0 9 rfl rfl)
theorem dX1_record_12 : decode cX1_record 12 = .ok (.aload_n 0, 1) := dk_42 (dk_at dksX1_record_0 12 rfl rfl)
theorem dX1_record_13 : decode cX1_record 13 = .ok (.getfield 53, 3) := dk_180 0 53 (dk_at dksX1_record_0 13 rfl rfl)
theorem dX1_record_16 : decode cX1_record 16 = .ok (.invokevirtual 306, 3) := dk_182 1 50 (dk_at dksX1_record_0 16 rfl rfl)
theorem dX1_record_19 : decode cX1_record 19 = .ok (.pop, 1) := dk_87 (dk_at dksX1_record_0 19 rfl rfl)
theorem dX1_record_20 : decode cX1_record 20 = .ok (.aload_n 0, 1) := dk_42 (dk_at dksX1_record_0 20 rfl rfl)
theorem dX1_record_21 : decode cX1_record 21 = .ok (.getfield 53, 3) := dk_180 0 53 (dk_at dksX1_record_0 21 rfl rfl)
theorem dX1_record_24 : decode cX1_record 24 = .ok (.aload_n 0, 1) := dk_42 (dk_at dksX1_record_1 0 rfl rfl)
theorem dX1_record_25 : decode cX1_record 25 = .ok (.getfield 46, 3) := dk_180 0 46 (dk_at dksX1_record_1 1 rfl rfl)
theorem dX1_record_28 : decode cX1_record 28 = .ok (.invokevirtual 310, 3) := dk_182 1 54 (dk_at dksX1_record_1 4 rfl rfl)
theorem dX1_record_31 : decode cX1_record 31 = .ok (.aload_n 0, 1) := dk_42 (dk_at dksX1_record_1 7 rfl rfl)
theorem dX1_record_32 : decode cX1_record 32 = .ok (.aload_n 1, 1) := dk_43 (dk_at dksX1_record_1 8 rfl rfl)
theorem dX1_record_33 : decode cX1_record 33 = .ok (.putfield 46, 3) := dk_181 0 46 (dk_at dksX1_record_1 9 rfl rfl)
theorem dX1_record_36 : decode cX1_record 36 = .ok (.return_, 1) := dk_177 (dk_at dksX1_record_1 12 rfl rfl)
/-- PackingDuel.record(LPackingDuel$State;)V -/
def zb40 (G : zPg) (C : zO) (args : List Value) (Q : zQ) (Y : zY) (σ : zS) : Prop := ∃ (a0 : Nat) (x1 : Option Nat), args = [.ref a0, va_rf x1] ∧ (zgR σ (some a0) 0 2 (fun v1 => zrc σ v1 3 (fun a10 => zcl C 139 [.ref a10] Y σ (zqI (fun v7 s8 => zJ (fun  (s14 : zS) => zgR s14 (some a0) 0 2 (fun v16 => zgR s14 (some a0) 0 0 (fun v22 => zrc s14 v16 3 (fun a31 => zcl C 145 [.ref a31, va_rf v22] Y s14 (zqV (fun s29 => zput s29 G.1 (some a0) 0 0 (va_rf x1) (fun s35 => Q none s35))))))) (fun (j15 : zS → Prop) => ((¬ v7 = (10 : Int32)) → j15 s8) ∧ ((v7 = (10 : Int32)) → zgR s8 (some a0) 0 2 (fun v44 => zrc s8 v44 3 (fun a53 => zcl C 141 [.ref a53] Y s8 (zqR (fun v50 s51 => j15 s51)))))))))))
set_option maxHeartbeats 4000000 in
theorem wk40 {l : Launch} {g : zG} {d : Nat} {C : zO} (hG : zGk g) (hC : zSound l g d C) {args : List Value} {Q : zQ} {Y : zY} {σ : zS} (hw : zb40 (zpg g) C args Q Y σ) : zMet l g (d + 1) (⟨"PackingDuel", "record", "(LPackingDuel$State;)V"⟩, Cond.code ⟨"PackingDuel", "record", "(LPackingDuel$State;)V"⟩ prog_1_method_39_code 2 (Option.none : Option FieldType)) args σ Q Y := by
  obtain ⟨a0, x1, rfl, hw⟩ := hw
  refine zof hG (by decide +kernel) [false, false] ⟨rfl, (zc_rf _), trivial⟩ (Nat.le_of_ble_eq_true rfl) (ls := [some (va_rf (some a0)), some (va_rf x1)]) rfl ?_
  intro X hX hR hTb hd1 hd2 hl hg hnm
  subst hl
  subst hg
  have hd : zDep X d := ⟨hd1, hd2⟩
  refine z_aload_n hX dX1_record_0 rfl (i := 0) rfl ?_
  obtain ⟨a2, f3, v1, r4, m5, e6, hw⟩ := hw
  refine z_get hX zc0 (k := 2) dX1_record_1 (Nat.le_of_ble_eq_true rfl) (zlk hX q309) r4 m5 e6 ?_
  obtain ⟨a10, f11, r12, m13, hw⟩ := hw
  refine z_invV hX hd r12 (ci := 3) rfl rfl m13 dX1_record_4 (hC 139 _ zm139 _ _ _ _ hw) q842 q843 q844 zh6 q845 q135 zn139 rfl (Nat.le_of_ble_eq_true rfl) (st := []) rfl (zcs8 (Nat.le_of_ble_eq_true rfl)) rfl (zkI (fun v7 s8 hw => ?_)) (zout hX hR hTb)
  refine z_bipush hX (v := (10 : Int32)) dX1_record_7 (by decide) ?_
  refine zJ_w (P := fun (j : zS → Prop) => ∀  (s14 : zS), j  s14 → zW X s14 20 [some (va_rf (some a0)), some (va_rf x1)] []) hw (fun  s14 hw => ?_) (fun j15 hj15 hw => ?_)
  · refine z_aload_n hX dX1_record_20 rfl (i := 0) rfl ?_
    obtain ⟨a17, f18, v16, r19, m20, e21, hw⟩ := hw
    refine z_get hX zc0 (k := 2) dX1_record_21 (Nat.le_of_ble_eq_true rfl) (zlk hX q309) r19 m20 e21 ?_
    refine z_aload_n hX dX1_record_24 rfl (i := 0) rfl ?_
    obtain ⟨a23, f24, v22, r25, m26, e27, hw⟩ := hw
    refine z_get hX zc0 (k := 0) dX1_record_25 (Nat.le_of_ble_eq_true rfl) (zlk hX q307) r25 m26 e27 ?_
    obtain ⟨a31, f32, r33, m34, hw⟩ := hw
    refine z_invV hX hd r33 (ci := 3) rfl rfl m34 dX1_record_28 (hC 145 _ zm145 _ _ _ _ hw) q929 q930 q931 zh6 q932 q135 zn145 rfl (Nat.le_of_ble_eq_true rfl) (st := []) rfl (zcs8 (Nat.le_of_ble_eq_true rfl)) rfl (zkV (fun s29 hw => ?_)) (zout hX hR hTb)
    refine z_aload_n hX dX1_record_31 rfl (i := 0) rfl ?_
    refine z_aload_n hX dX1_record_32 rfl (i := 1) rfl ?_
    obtain ⟨a37, f38, r39, g40, m41, l42, hw⟩ := hw
    refine z_put hX zc0 (k := 0) dX1_record_33 (Nat.le_of_ble_eq_true rfl) (zlk hX q307) rfl (zn_o _ _) (zf_o _ _) r39 g40 m41 l42 (z_nm (fun s35 e36 => ?_))
    have hw := hw s35 e36
    exact z_return hX hR dX1_record_36 hw
  · refine z_icmp_ne hX dX1_record_9 (tgt := 20) rfl (fun c43 => ?_) (fun c43 => ?_)
    · have hw := hw.1 c43
      exact hj15  _ hw
    · have hw := hw.2 c43
      refine z_aload_n hX dX1_record_12 rfl (i := 0) rfl ?_
      obtain ⟨a45, f46, v44, r47, m48, e49, hw⟩ := hw
      refine z_get hX zc0 (k := 2) dX1_record_13 (Nat.le_of_ble_eq_true rfl) (zlk hX q309) r47 m48 e49 ?_
      obtain ⟨a53, f54, r55, m56, hw⟩ := hw
      refine z_invV hX hd r55 (ci := 3) rfl rfl m56 dX1_record_16 (hC 141 _ zm141 _ _ _ _ hw) q849 q850 q851 zh6 q852 q135 zn141 rfl (Nat.le_of_ble_eq_true rfl) (st := []) rfl (zcs8 (Nat.le_of_ble_eq_true rfl)) rfl (zkR (fun v50 s51 hw => ?_)) (zout hX hR hTb)
      refine z_pop hX dX1_record_19 (zc_rf _) ?_
      exact hj15  _ hw
abbrev cX1_pass : ByteArray := prog_1_method_50_code
def yX1_pass : MethodName := ⟨RX1, "pass", "()I"⟩
def dkwX1_pass_2 : List UInt8 := [180, 0, 46, 180, 1, 31, 172]
abbrev dktX1_pass_2 : List UInt8 := dkwX1_pass_2 ++ []
def dkwX1_pass_1 : List UInt8 := [182, 1, 100, 42, 43, 182, 1, 61, 42, 180, 0, 46, 182, 1, 27, 153, 0, 7, 2, 167, 0, 10, 42]
abbrev dktX1_pass_1 : List UInt8 := dkwX1_pass_1 ++ dktX1_pass_2
def dkwX1_pass_0 : List UInt8 := [42, 180, 0, 46, 182, 1, 27, 153, 0, 6, 16, 254, 172, 42, 180, 0, 46, 182, 1, 69, 76, 43, 2]
abbrev dktX1_pass_0 : List UInt8 := dkwX1_pass_0 ++ dktX1_pass_1
theorem dksX1_pass_0 : cX1_pass.data.toList.drop 0 = dktX1_pass_0 := by decide +kernel
theorem dksX1_pass_1 : cX1_pass.data.toList.drop 23 = dktX1_pass_1 := dk_seg dksX1_pass_0 23 rfl rfl
theorem dksX1_pass_2 : cX1_pass.data.toList.drop 46 = dktX1_pass_2 := dk_seg dksX1_pass_1 23 rfl rfl
theorem dX1_pass_0 : decode cX1_pass 0 = .ok (.aload_n 0, 1) := dk_42 (dk_at dksX1_pass_0 0 rfl rfl)
theorem dX1_pass_1 : decode cX1_pass 1 = .ok (.getfield 46, 3) := dk_180 0 46 (dk_at dksX1_pass_0 1 rfl rfl)
theorem dX1_pass_4 : decode cX1_pass 4 = .ok (.invokevirtual 283, 3) := dk_182 1 27 (dk_at dksX1_pass_0 4 rfl rfl)
theorem dX1_pass_7 : decode cX1_pass 7 = .ok (.ifCond .eq 6, 3) := dk_153 0 6 (dk_at dksX1_pass_0 7 rfl rfl)
theorem dX1_pass_10 : decode cX1_pass 10 = .ok (.bipush (-2), 2) := dk_16 254 (dk_at dksX1_pass_0 10 rfl rfl)
theorem dX1_pass_12 : decode cX1_pass 12 = .ok (.ireturn, 1) := dk_172 (dk_at dksX1_pass_0 12 rfl rfl)
theorem dX1_pass_13 : decode cX1_pass 13 = .ok (.aload_n 0, 1) := dk_42 (dk_at dksX1_pass_0 13 rfl rfl)
theorem dX1_pass_14 : decode cX1_pass 14 = .ok (.getfield 46, 3) := dk_180 0 46 (dk_at dksX1_pass_0 14 rfl rfl)
theorem dX1_pass_17 : decode cX1_pass 17 = .ok (.invokevirtual 325, 3) := dk_182 1 69 (dk_at dksX1_pass_0 17 rfl rfl)
theorem dX1_pass_20 : decode cX1_pass 20 = .ok (.astore_n 1, 1) := dk_76 (dk_at dksX1_pass_0 20 rfl rfl)
theorem dX1_pass_21 : decode cX1_pass 21 = .ok (.aload_n 1, 1) := dk_43 (dk_at dksX1_pass_0 21 rfl rfl)
theorem dX1_pass_22 : decode cX1_pass 22 = .ok (.iconst (-1), 1) := dk_2 (dk_at dksX1_pass_0 22 rfl rfl)
theorem dX1_pass_23 : decode cX1_pass 23 = .ok (.invokevirtual 356, 3) := dk_182 1 100 (dk_at dksX1_pass_1 0 rfl rfl)
theorem dX1_pass_26 : decode cX1_pass 26 = .ok (.aload_n 0, 1) := dk_42 (dk_at dksX1_pass_1 3 rfl rfl)
theorem dX1_pass_27 : decode cX1_pass 27 = .ok (.aload_n 1, 1) := dk_43 (dk_at dksX1_pass_1 4 rfl rfl)
theorem dX1_pass_28 : decode cX1_pass 28 = .ok (.invokevirtual 317, 3) := dk_182 1 61 (dk_at dksX1_pass_1 5 rfl rfl)
theorem dX1_pass_31 : decode cX1_pass 31 = .ok (.aload_n 0, 1) := dk_42 (dk_at dksX1_pass_1 8 rfl rfl)
theorem dX1_pass_32 : decode cX1_pass 32 = .ok (.getfield 46, 3) := dk_180 0 46 (dk_at dksX1_pass_1 9 rfl rfl)
theorem dX1_pass_35 : decode cX1_pass 35 = .ok (.invokevirtual 283, 3) := dk_182 1 27 (dk_at dksX1_pass_1 12 rfl rfl)
theorem dX1_pass_38 : decode cX1_pass 38 = .ok (.ifCond .eq 7, 3) := dk_153 0 7 (dk_at dksX1_pass_1 15 rfl rfl)
theorem dX1_pass_41 : decode cX1_pass 41 = .ok (.iconst (-1), 1) := dk_2 (dk_at dksX1_pass_1 18 rfl rfl)
theorem dX1_pass_42 : decode cX1_pass 42 = .ok (.goto 10, 3) := dk_167 0 10 (dk_at dksX1_pass_1 19 rfl rfl)
theorem dX1_pass_45 : decode cX1_pass 45 = .ok (.aload_n 0, 1) := dk_42 (dk_at dksX1_pass_1 22 rfl rfl)
theorem dX1_pass_46 : decode cX1_pass 46 = .ok (.getfield 46, 3) := dk_180 0 46 (dk_at dksX1_pass_2 0 rfl rfl)
theorem dX1_pass_49 : decode cX1_pass 49 = .ok (.getfield 287, 3) := dk_180 1 31 (dk_at dksX1_pass_2 3 rfl rfl)
theorem dX1_pass_52 : decode cX1_pass 52 = .ok (.ireturn, 1) := dk_172 (dk_at dksX1_pass_2 6 rfl rfl)
/-- PackingDuel.pass()I -/
def zb41 (G : zPg) (C : zO) (args : List Value) (Q : zQ) (Y : zY) (σ : zS) : Prop := ∃ (a0 : Nat), args = [.ref a0] ∧ (zgR σ (some a0) 0 0 (fun v1 => zrc σ v1 1 (fun a10 => zcl C 101 [.ref a10] Y σ (zqI (fun v7 s8 => ((v7 = 0) → zgR s8 (some a0) 0 0 (fun v15 => zrc s8 v15 1 (fun a24 => zcl C 105 [.ref a24] Y s8 (zqR (fun v21 s22 => zrc s22 v21 1 (fun a31 => zcl C 106 [.ref a31, .int (-1 : Int32)] Y s22 (zqV (fun s29 => zrc s29 (some a0) 0 (fun a38 => zcl C 40 [.ref a38, va_rf v21] Y s29 (zqV (fun s36 => zgR s36 (some a0) 0 0 (fun v42 => zrc s36 v42 1 (fun a51 => zcl C 101 [.ref a51] Y s36 (zqI (fun v48 s49 => zJ (fun (p55 : Int32) (s56 : zS) => Q (some (.int p55)) s56) (fun (j57 : Int32 → zS → Prop) => ((v48 = 0) → zgR s49 (some a0) 0 0 (fun v59 => zgI s49 v59 1 8 (fun v65 => j57 v65 s49))) ∧ ((¬ v48 = 0) → j57 (-1 : Int32) s49))))))))))))))))) ∧ ((¬ v7 = 0) → Q (some (.int (-2 : Int32))) s8))))))
set_option maxHeartbeats 4000000 in
theorem wk41 {l : Launch} {g : zG} {d : Nat} {C : zO} (hG : zGk g) (hC : zSound l g d C) {args : List Value} {Q : zQ} {Y : zY} {σ : zS} (hw : zb41 (zpg g) C args Q Y σ) : zMet l g (d + 1) (⟨"PackingDuel", "pass", "()I"⟩, Cond.code ⟨"PackingDuel", "pass", "()I"⟩ prog_1_method_50_code 2 (Option.some FieldType.int)) args σ Q Y := by
  obtain ⟨a0, rfl, hw⟩ := hw
  refine zof hG (by decide +kernel) [false] ⟨rfl, trivial⟩ (Nat.le_of_ble_eq_true rfl) (ls := [some (va_rf (some a0)), none]) rfl ?_
  intro X hX hR hTb hd1 hd2 hl hg hnm
  subst hl
  subst hg
  have hd : zDep X d := ⟨hd1, hd2⟩
  refine z_aload_n hX dX1_pass_0 rfl (i := 0) rfl ?_
  obtain ⟨a2, f3, v1, r4, m5, e6, hw⟩ := hw
  refine z_get hX zc0 (k := 0) dX1_pass_1 (Nat.le_of_ble_eq_true rfl) (zlk hX q307) r4 m5 e6 ?_
  obtain ⟨a10, f11, r12, m13, hw⟩ := hw
  refine z_invV hX hd r12 (ci := 1) rfl rfl m13 dX1_pass_4 (hC 101 _ zm101 _ _ _ _ hw) q949 q722 q723 zh2 q724 q131 zn101 rfl (Nat.le_of_ble_eq_true rfl) (st := []) rfl (zcs8 (Nat.le_of_ble_eq_true rfl)) rfl (zkI (fun v7 s8 hw => ?_)) (zout hX hR hTb)
  refine z_if_eq hX dX1_pass_7 (tgt := 13) rfl (fun c14 => ?_) (fun c14 => ?_)
  · have hw := hw.1 c14
    refine z_aload_n hX dX1_pass_13 rfl (i := 0) rfl ?_
    obtain ⟨a16, f17, v15, r18, m19, e20, hw⟩ := hw
    refine z_get hX zc0 (k := 0) dX1_pass_14 (Nat.le_of_ble_eq_true rfl) (zlk hX q307) r18 m19 e20 ?_
    obtain ⟨a24, f25, r26, m27, hw⟩ := hw
    refine z_invV hX hd r26 (ci := 1) rfl rfl m27 dX1_pass_17 (hC 105 _ zm105 _ _ _ _ hw) q758 q759 q760 zh2 q761 q131 zn105 rfl (Nat.le_of_ble_eq_true rfl) (st := []) rfl (zcs8 (Nat.le_of_ble_eq_true rfl)) rfl (zkR (fun v21 s22 hw => ?_)) (zout hX hR hTb)
    refine z_astore_n hX dX1_pass_20 rfl (i := 1) (Nat.le_of_ble_eq_true rfl) (zc_rf _) (ls2 := [some (va_rf (some a0)), some (va_rf v21)]) rfl ?_
    refine z_aload_n hX dX1_pass_21 rfl (i := 1) rfl ?_
    refine z_iconst hX (v := (-1 : Int32)) dX1_pass_22 (by decide) ?_
    obtain ⟨a31, f32, r33, m34, hw⟩ := hw
    refine z_invV hX hd r33 (ci := 1) rfl rfl m34 dX1_pass_23 (hC 106 _ zm106 _ _ _ _ hw) q950 q951 q952 zh2 q953 q131 zn106 rfl (Nat.le_of_ble_eq_true rfl) (st := []) rfl (zcs8 (Nat.le_of_ble_eq_true rfl)) rfl (zkV (fun s29 hw => ?_)) (zout hX hR hTb)
    refine z_aload_n hX dX1_pass_26 rfl (i := 0) rfl ?_
    refine z_aload_n hX dX1_pass_27 rfl (i := 1) rfl ?_
    obtain ⟨a38, f39, r40, m41, hw⟩ := hw
    refine z_invV hX hd r40 (ci := 0) rfl rfl m41 dX1_pass_28 (hC 40 _ zm40 _ _ _ _ hw) q838 q840 qs14 zh1 q841 q130 zn40 rfl (Nat.le_of_ble_eq_true rfl) (st := []) rfl (zcs8 (Nat.le_of_ble_eq_true rfl)) rfl (zkV (fun s36 hw => ?_)) (zout hX hR hTb)
    refine z_aload_n hX dX1_pass_31 rfl (i := 0) rfl ?_
    obtain ⟨a43, f44, v42, r45, m46, e47, hw⟩ := hw
    refine z_get hX zc0 (k := 0) dX1_pass_32 (Nat.le_of_ble_eq_true rfl) (zlk hX q307) r45 m46 e47 ?_
    obtain ⟨a51, f52, r53, m54, hw⟩ := hw
    refine z_invV hX hd r53 (ci := 1) rfl rfl m54 dX1_pass_35 (hC 101 _ zm101 _ _ _ _ hw) q949 q722 q723 zh2 q724 q131 zn101 rfl (Nat.le_of_ble_eq_true rfl) (st := []) rfl (zcs8 (Nat.le_of_ble_eq_true rfl)) rfl (zkI (fun v48 s49 hw => ?_)) (zout hX hR hTb)
    refine zJ_w (P := fun (j : Int32 → zS → Prop) => ∀ (p55 : Int32) (s56 : zS), j p55 s56 → zW X s56 52 [none, none] [.int p55]) hw (fun p55 s56 hw => ?_) (fun j57 hj57 hw => ?_)
    · exact z_ireturn hX hR dX1_pass_52 rfl hw
    · refine z_if_eq hX dX1_pass_38 (tgt := 45) rfl (fun c58 => ?_) (fun c58 => ?_)
      · have hw := hw.1 c58
        refine z_aload_n hX dX1_pass_45 rfl (i := 0) rfl ?_
        obtain ⟨a60, f61, v59, r62, m63, e64, hw⟩ := hw
        refine z_get hX zc0 (k := 0) dX1_pass_46 (Nat.le_of_ble_eq_true rfl) (zlk hX q307) r62 m63 e64 ?_
        obtain ⟨a66, f67, v65, r68, m69, e70, hw⟩ := hw
        refine z_get hX zc1 (k := 8) dX1_pass_49 (Nat.le_of_ble_eq_true rfl) (zlkN hX "PackingDuel" q249) r68 m69 e70 ?_
        refine z_sub (ls' := [none, none]) (zsN (zsN (zs0))) ?_
        exact hj57 _ _ hw
      · have hw := hw.2 c58
        refine z_iconst hX (v := (-1 : Int32)) dX1_pass_41 (by decide) ?_
        refine z_goto hX dX1_pass_42 (tgt := 52) rfl ?_
        refine z_sub (ls' := [none, none]) (zsN (zsN (zs0))) ?_
        exact hj57 _ _ hw
  · have hw := hw.2 c14
    refine z_bipush hX (v := (-2 : Int32)) dX1_pass_10 (by decide) ?_
    exact z_ireturn hX hR dX1_pass_12 rfl hw
abbrev cX1_restart : ByteArray := prog_1_method_52_code
def yX1_restart : MethodName := ⟨RX1, "restart", "()I"⟩
def dkwX1_restart_1 : List UInt8 := [182, 1, 61, 27, 172]
abbrev dktX1_restart_1 : List UInt8 := dkwX1_restart_1 ++ []
def dkwX1_restart_0 : List UInt8 := [42, 180, 0, 46, 180, 1, 34, 60, 42, 180, 0, 46, 182, 1, 69, 77, 44, 182, 1, 105, 42, 44]
abbrev dktX1_restart_0 : List UInt8 := dkwX1_restart_0 ++ dktX1_restart_1
theorem dksX1_restart_0 : cX1_restart.data.toList.drop 0 = dktX1_restart_0 := by decide +kernel
theorem dksX1_restart_1 : cX1_restart.data.toList.drop 22 = dktX1_restart_1 := dk_seg dksX1_restart_0 22 rfl rfl
theorem dX1_restart_0 : decode cX1_restart 0 = .ok (.aload_n 0, 1) := dk_42 (dk_at dksX1_restart_0 0 rfl rfl)
theorem dX1_restart_1 : decode cX1_restart 1 = .ok (.getfield 46, 3) := dk_180 0 46 (dk_at dksX1_restart_0 1 rfl rfl)
theorem dX1_restart_4 : decode cX1_restart 4 = .ok (.getfield 290, 3) := dk_180 1 34 (dk_at dksX1_restart_0 4 rfl rfl)
theorem dX1_restart_7 : decode cX1_restart 7 = .ok (.istore_n 1, 1) := dk_60 (dk_at dksX1_restart_0 7 rfl rfl)
theorem dX1_restart_8 : decode cX1_restart 8 = .ok (.aload_n 0, 1) := dk_42 (dk_at dksX1_restart_0 8 rfl rfl)
theorem dX1_restart_9 : decode cX1_restart 9 = .ok (.getfield 46, 3) := dk_180 0 46 (dk_at dksX1_restart_0 9 rfl rfl)
theorem dX1_restart_12 : decode cX1_restart 12 = .ok (.invokevirtual 325, 3) := dk_182 1 69 (dk_at dksX1_restart_0 12 rfl rfl)
theorem dX1_restart_15 : decode cX1_restart 15 = .ok (.astore_n 2, 1) := dk_77 (dk_at dksX1_restart_0 15 rfl rfl)
theorem dX1_restart_16 : decode cX1_restart 16 = .ok (.aload_n 2, 1) := dk_44 (dk_at dksX1_restart_0 16 rfl rfl)
theorem dX1_restart_17 : decode cX1_restart 17 = .ok (.invokevirtual 361, 3) := dk_182 1 105 (dk_at dksX1_restart_0 17 rfl rfl)
theorem dX1_restart_20 : decode cX1_restart 20 = .ok (.aload_n 0, 1) := dk_42 (dk_at dksX1_restart_0 20 rfl rfl)
theorem dX1_restart_21 : decode cX1_restart 21 = .ok (.aload_n 2, 1) := dk_44 (dk_at dksX1_restart_0 21 rfl rfl)
theorem dX1_restart_22 : decode cX1_restart 22 = .ok (.invokevirtual 317, 3) := dk_182 1 61 (dk_at dksX1_restart_1 0 rfl rfl)
theorem dX1_restart_25 : decode cX1_restart 25 = .ok (.iload_n 1, 1) := dk_27 (dk_at dksX1_restart_1 3 rfl rfl)
theorem dX1_restart_26 : decode cX1_restart 26 = .ok (.ireturn, 1) := dk_172 (dk_at dksX1_restart_1 4 rfl rfl)
/-- PackingDuel.restart()I -/
def zb42 (G : zPg) (C : zO) (args : List Value) (Q : zQ) (Y : zY) (σ : zS) : Prop := ∃ (a0 : Nat), args = [.ref a0] ∧ (zgR σ (some a0) 0 0 (fun v1 => zgI σ v1 1 10 (fun v7 => zgR σ (some a0) 0 0 (fun v13 => zrc σ v13 1 (fun a22 => zcl C 105 [.ref a22] Y σ (zqR (fun v19 s20 => zrc s20 v19 1 (fun a29 => zcl C 107 [.ref a29] Y s20 (zqV (fun s27 => zrc s27 (some a0) 0 (fun a36 => zcl C 40 [.ref a36, va_rf v19] Y s27 (zqV (fun s34 => Q (some (.int v7)) s34)))))))))))))
set_option maxHeartbeats 4000000 in
theorem wk42 {l : Launch} {g : zG} {d : Nat} {C : zO} (hG : zGk g) (hC : zSound l g d C) {args : List Value} {Q : zQ} {Y : zY} {σ : zS} (hw : zb42 (zpg g) C args Q Y σ) : zMet l g (d + 1) (⟨"PackingDuel", "restart", "()I"⟩, Cond.code ⟨"PackingDuel", "restart", "()I"⟩ prog_1_method_52_code 3 (Option.some FieldType.int)) args σ Q Y := by
  obtain ⟨a0, rfl, hw⟩ := hw
  refine zof hG (by decide +kernel) [false] ⟨rfl, trivial⟩ (Nat.le_of_ble_eq_true rfl) (ls := [some (va_rf (some a0)), none, none]) rfl ?_
  intro X hX hR hTb hd1 hd2 hl hg hnm
  subst hl
  subst hg
  have hd : zDep X d := ⟨hd1, hd2⟩
  refine z_aload_n hX dX1_restart_0 rfl (i := 0) rfl ?_
  obtain ⟨a2, f3, v1, r4, m5, e6, hw⟩ := hw
  refine z_get hX zc0 (k := 0) dX1_restart_1 (Nat.le_of_ble_eq_true rfl) (zlk hX q307) r4 m5 e6 ?_
  obtain ⟨a8, f9, v7, r10, m11, e12, hw⟩ := hw
  refine z_get hX zc1 (k := 10) dX1_restart_4 (Nat.le_of_ble_eq_true rfl) (zlkN hX "PackingDuel" q252) r10 m11 e12 ?_
  refine z_istore_n hX dX1_restart_7 rfl (i := 1) (Nat.le_of_ble_eq_true rfl) (zc_rf _) (ls2 := [some (va_rf (some a0)), some (.int v7), none]) rfl ?_
  refine z_aload_n hX dX1_restart_8 rfl (i := 0) rfl ?_
  obtain ⟨a14, f15, v13, r16, m17, e18, hw⟩ := hw
  refine z_get hX zc0 (k := 0) dX1_restart_9 (Nat.le_of_ble_eq_true rfl) (zlk hX q307) r16 m17 e18 ?_
  obtain ⟨a22, f23, r24, m25, hw⟩ := hw
  refine z_invV hX hd r24 (ci := 1) rfl rfl m25 dX1_restart_12 (hC 105 _ zm105 _ _ _ _ hw) q758 q759 q760 zh2 q761 q131 zn105 rfl (Nat.le_of_ble_eq_true rfl) (st := []) rfl (zcs8 (Nat.le_of_ble_eq_true rfl)) rfl (zkR (fun v19 s20 hw => ?_)) (zout hX hR hTb)
  refine z_astore_n hX dX1_restart_15 rfl (i := 2) (Nat.le_of_ble_eq_true rfl) rfl (ls2 := [some (va_rf (some a0)), some (.int v7), some (va_rf v19)]) rfl ?_
  refine z_aload_n hX dX1_restart_16 rfl (i := 2) rfl ?_
  obtain ⟨a29, f30, r31, m32, hw⟩ := hw
  refine z_invV hX hd r31 (ci := 1) rfl rfl m32 dX1_restart_17 (hC 107 _ zm107 _ _ _ _ hw) q958 q959 q960 zh2 q961 q131 zn107 rfl (Nat.le_of_ble_eq_true rfl) (st := []) rfl (zcs8 (Nat.le_of_ble_eq_true rfl)) rfl (zkV (fun s27 hw => ?_)) (zout hX hR hTb)
  refine z_aload_n hX dX1_restart_20 rfl (i := 0) rfl ?_
  refine z_aload_n hX dX1_restart_21 rfl (i := 2) rfl ?_
  obtain ⟨a36, f37, r38, m39, hw⟩ := hw
  refine z_invV hX hd r38 (ci := 0) rfl rfl m39 dX1_restart_22 (hC 40 _ zm40 _ _ _ _ hw) q838 q840 qs14 zh1 q841 q130 zn40 rfl (Nat.le_of_ble_eq_true rfl) (st := []) rfl (zcs8 (Nat.le_of_ble_eq_true rfl)) rfl (zkV (fun s34 hw => ?_)) (zout hX hR hTb)
  refine z_iload_n hX dX1_restart_25 rfl (i := 1) rfl ?_
  exact z_ireturn hX hR dX1_restart_26 rfl hw
abbrev cX1_undoCount : ByteArray := prog_1_method_53_code
def yX1_undoCount : MethodName := ⟨RX1, "undoCount", "()I"⟩
def dkwX1_undoCount_0 : List UInt8 := [42, 180, 0, 53, 182, 1, 49, 172]
abbrev dktX1_undoCount_0 : List UInt8 := dkwX1_undoCount_0 ++ []
theorem dksX1_undoCount_0 : cX1_undoCount.data.toList.drop 0 = dktX1_undoCount_0 := by decide +kernel
theorem dX1_undoCount_0 : decode cX1_undoCount 0 = .ok (.aload_n 0, 1) := dk_42 (dk_at dksX1_undoCount_0 0 rfl rfl)
theorem dX1_undoCount_1 : decode cX1_undoCount 1 = .ok (.getfield 53, 3) := dk_180 0 53 (dk_at dksX1_undoCount_0 1 rfl rfl)
theorem dX1_undoCount_4 : decode cX1_undoCount 4 = .ok (.invokevirtual 305, 3) := dk_182 1 49 (dk_at dksX1_undoCount_0 4 rfl rfl)
theorem dX1_undoCount_7 : decode cX1_undoCount 7 = .ok (.ireturn, 1) := dk_172 (dk_at dksX1_undoCount_0 7 rfl rfl)
/-- PackingDuel.undoCount()I -/
def zb43 (G : zPg) (C : zO) (args : List Value) (Q : zQ) (Y : zY) (σ : zS) : Prop := ∃ (a0 : Nat), args = [.ref a0] ∧ (zgR σ (some a0) 0 2 (fun v1 => zrc σ v1 3 (fun a10 => zcl C 139 [.ref a10] Y σ (zqI (fun v7 s8 => Q (some (.int v7)) s8)))))
set_option maxHeartbeats 4000000 in
theorem wk43 {l : Launch} {g : zG} {d : Nat} {C : zO} (hG : zGk g) (hC : zSound l g d C) {args : List Value} {Q : zQ} {Y : zY} {σ : zS} (hw : zb43 (zpg g) C args Q Y σ) : zMet l g (d + 1) (⟨"PackingDuel", "undoCount", "()I"⟩, Cond.code ⟨"PackingDuel", "undoCount", "()I"⟩ prog_1_method_53_code 1 (Option.some FieldType.int)) args σ Q Y := by
  obtain ⟨a0, rfl, hw⟩ := hw
  refine zof hG (by decide +kernel) [false] ⟨rfl, trivial⟩ (Nat.le_of_ble_eq_true rfl) (ls := [some (va_rf (some a0))]) rfl ?_
  intro X hX hR hTb hd1 hd2 hl hg hnm
  subst hl
  subst hg
  have hd : zDep X d := ⟨hd1, hd2⟩
  refine z_aload_n hX dX1_undoCount_0 rfl (i := 0) rfl ?_
  obtain ⟨a2, f3, v1, r4, m5, e6, hw⟩ := hw
  refine z_get hX zc0 (k := 2) dX1_undoCount_1 (Nat.le_of_ble_eq_true rfl) (zlk hX q309) r4 m5 e6 ?_
  obtain ⟨a10, f11, r12, m13, hw⟩ := hw
  refine z_invV hX hd r12 (ci := 3) rfl rfl m13 dX1_undoCount_4 (hC 139 _ zm139 _ _ _ _ hw) q842 q843 q844 zh6 q845 q135 zn139 rfl (Nat.le_of_ble_eq_true rfl) (st := []) rfl (zcs8 (Nat.le_of_ble_eq_true rfl)) rfl (zkI (fun v7 s8 hw => ?_)) (zout hX hR hTb)
  exact z_ireturn hX hR dX1_undoCount_7 rfl hw
abbrev cX1_undo : ByteArray := prog_1_method_54_code
def yX1_undo : MethodName := ⟨RX1, "undo", "()I"⟩
def dkwX1_undo_1 : List UInt8 := [181, 0, 46, 42, 180, 0, 53, 182, 1, 49, 172]
abbrev dktX1_undo_1 : List UInt8 := dkwX1_undo_1 ++ []
def dkwX1_undo_0 : List UInt8 := [42, 180, 0, 53, 182, 1, 108, 153, 0, 5, 2, 172, 42, 42, 180, 0, 53, 182, 1, 111, 192, 0, 43]
abbrev dktX1_undo_0 : List UInt8 := dkwX1_undo_0 ++ dktX1_undo_1
theorem dksX1_undo_0 : cX1_undo.data.toList.drop 0 = dktX1_undo_0 := by decide +kernel
theorem dksX1_undo_1 : cX1_undo.data.toList.drop 23 = dktX1_undo_1 := dk_seg dksX1_undo_0 23 rfl rfl
theorem dX1_undo_0 : decode cX1_undo 0 = .ok (.aload_n 0, 1) := dk_42 (dk_at dksX1_undo_0 0 rfl rfl)
theorem dX1_undo_1 : decode cX1_undo 1 = .ok (.getfield 53, 3) := dk_180 0 53 (dk_at dksX1_undo_0 1 rfl rfl)
theorem dX1_undo_4 : decode cX1_undo 4 = .ok (.invokevirtual 364, 3) := dk_182 1 108 (dk_at dksX1_undo_0 4 rfl rfl)
theorem dX1_undo_7 : decode cX1_undo 7 = .ok (.ifCond .eq 5, 3) := dk_153 0 5 (dk_at dksX1_undo_0 7 rfl rfl)
theorem dX1_undo_10 : decode cX1_undo 10 = .ok (.iconst (-1), 1) := dk_2 (dk_at dksX1_undo_0 10 rfl rfl)
theorem dX1_undo_11 : decode cX1_undo 11 = .ok (.ireturn, 1) := dk_172 (dk_at dksX1_undo_0 11 rfl rfl)
theorem dX1_undo_12 : decode cX1_undo 12 = .ok (.aload_n 0, 1) := dk_42 (dk_at dksX1_undo_0 12 rfl rfl)
theorem dX1_undo_13 : decode cX1_undo 13 = .ok (.aload_n 0, 1) := dk_42 (dk_at dksX1_undo_0 13 rfl rfl)
theorem dX1_undo_14 : decode cX1_undo 14 = .ok (.getfield 53, 3) := dk_180 0 53 (dk_at dksX1_undo_0 14 rfl rfl)
theorem dX1_undo_17 : decode cX1_undo 17 = .ok (.invokevirtual 367, 3) := dk_182 1 111 (dk_at dksX1_undo_0 17 rfl rfl)
theorem dX1_undo_20 : decode cX1_undo 20 = .ok (.checkcast 43, 3) := dk_192 0 43 (dk_at dksX1_undo_0 20 rfl rfl)
theorem dX1_undo_23 : decode cX1_undo 23 = .ok (.putfield 46, 3) := dk_181 0 46 (dk_at dksX1_undo_1 0 rfl rfl)
theorem dX1_undo_26 : decode cX1_undo 26 = .ok (.aload_n 0, 1) := dk_42 (dk_at dksX1_undo_1 3 rfl rfl)
theorem dX1_undo_27 : decode cX1_undo 27 = .ok (.getfield 53, 3) := dk_180 0 53 (dk_at dksX1_undo_1 4 rfl rfl)
theorem dX1_undo_30 : decode cX1_undo 30 = .ok (.invokevirtual 305, 3) := dk_182 1 49 (dk_at dksX1_undo_1 7 rfl rfl)
theorem dX1_undo_33 : decode cX1_undo 33 = .ok (.ireturn, 1) := dk_172 (dk_at dksX1_undo_1 10 rfl rfl)
/-- PackingDuel.undo()I -/
def zb44 (G : zPg) (C : zO) (args : List Value) (Q : zQ) (Y : zY) (σ : zS) : Prop := ∃ (a0 : Nat), args = [.ref a0] ∧ (zgR σ (some a0) 0 2 (fun v1 => zrc σ v1 3 (fun a10 => zcl C 148 [.ref a10] Y σ (zqI (fun v7 s8 => ((v7 = 0) → zgR s8 (some a0) 0 2 (fun v15 => zrc s8 v15 3 (fun a24 => zcl C 149 [.ref a24] Y s8 (zqR (fun v21 s22 => (zcst s22 v21 [1] ∧ zput s22 G.1 (some a0) 0 0 (va_rf v21) (fun s28 => zgR s28 (some a0) 0 2 (fun v36 => zrc s28 v36 3 (fun a45 => zcl C 139 [.ref a45] Y s28 (zqI (fun v42 s43 => Q (some (.int v42)) s43))))))))))) ∧ ((¬ v7 = 0) → Q (some (.int (-1 : Int32))) s8))))))
set_option maxHeartbeats 4000000 in
theorem wk44 {l : Launch} {g : zG} {d : Nat} {C : zO} (hG : zGk g) (hC : zSound l g d C) {args : List Value} {Q : zQ} {Y : zY} {σ : zS} (hw : zb44 (zpg g) C args Q Y σ) : zMet l g (d + 1) (⟨"PackingDuel", "undo", "()I"⟩, Cond.code ⟨"PackingDuel", "undo", "()I"⟩ prog_1_method_54_code 1 (Option.some FieldType.int)) args σ Q Y := by
  obtain ⟨a0, rfl, hw⟩ := hw
  refine zof hG (by decide +kernel) [false] ⟨rfl, trivial⟩ (Nat.le_of_ble_eq_true rfl) (ls := [some (va_rf (some a0))]) rfl ?_
  intro X hX hR hTb hd1 hd2 hl hg hnm
  subst hl
  subst hg
  have hd : zDep X d := ⟨hd1, hd2⟩
  refine z_aload_n hX dX1_undo_0 rfl (i := 0) rfl ?_
  obtain ⟨a2, f3, v1, r4, m5, e6, hw⟩ := hw
  refine z_get hX zc0 (k := 2) dX1_undo_1 (Nat.le_of_ble_eq_true rfl) (zlk hX q309) r4 m5 e6 ?_
  obtain ⟨a10, f11, r12, m13, hw⟩ := hw
  refine z_invV hX hd r12 (ci := 3) rfl rfl m13 dX1_undo_4 (hC 148 _ zm148 _ _ _ _ hw) q970 q971 q972 zh6 q973 q135 zn148 rfl (Nat.le_of_ble_eq_true rfl) (st := []) rfl (zcs8 (Nat.le_of_ble_eq_true rfl)) rfl (zkI (fun v7 s8 hw => ?_)) (zout hX hR hTb)
  refine z_if_eq hX dX1_undo_7 (tgt := 12) rfl (fun c14 => ?_) (fun c14 => ?_)
  · have hw := hw.1 c14
    refine z_aload_n hX dX1_undo_12 rfl (i := 0) rfl ?_
    refine z_aload_n hX dX1_undo_13 rfl (i := 0) rfl ?_
    obtain ⟨a16, f17, v15, r18, m19, e20, hw⟩ := hw
    refine z_get hX zc0 (k := 2) dX1_undo_14 (Nat.le_of_ble_eq_true rfl) (zlk hX q309) r18 m19 e20 ?_
    obtain ⟨a24, f25, r26, m27, hw⟩ := hw
    refine z_invV hX hd r26 (ci := 3) rfl rfl m27 dX1_undo_17 (hC 149 _ zm149 _ _ _ _ hw) q974 q975 q976 zh6 q977 q135 zn149 rfl (Nat.le_of_ble_eq_true rfl) (st := [va_rf (some a0)]) rfl (zcs8 (Nat.le_of_ble_eq_true rfl)) rfl (zkR (fun v21 s22 hw => ?_)) (zout hX hR hTb)
    refine z_cast hX dX1_undo_20 q193 (zfa1 ⟨_, rfl, Or.inl rfl⟩ (zfa0)) hw.1 ?_
    have hw := hw.2
    obtain ⟨a30, f31, r32, g33, m34, l35, hw⟩ := hw
    refine z_put hX zc0 (k := 0) dX1_undo_23 (Nat.le_of_ble_eq_true rfl) (zlk hX q307) rfl (zn_o _ _) (zf_o _ _) r32 g33 m34 l35 (z_nm (fun s28 e29 => ?_))
    have hw := hw s28 e29
    refine z_aload_n hX dX1_undo_26 rfl (i := 0) rfl ?_
    obtain ⟨a37, f38, v36, r39, m40, e41, hw⟩ := hw
    refine z_get hX zc0 (k := 2) dX1_undo_27 (Nat.le_of_ble_eq_true rfl) (zlk hX q309) r39 m40 e41 ?_
    obtain ⟨a45, f46, r47, m48, hw⟩ := hw
    refine z_invV hX hd r47 (ci := 3) rfl rfl m48 dX1_undo_30 (hC 139 _ zm139 _ _ _ _ hw) q842 q843 q844 zh6 q845 q135 zn139 rfl (Nat.le_of_ble_eq_true rfl) (st := []) rfl (zcs8 (Nat.le_of_ble_eq_true rfl)) rfl (zkI (fun v42 s43 hw => ?_)) (zout hX hR hTb)
    exact z_ireturn hX hR dX1_undo_33 rfl hw
  · have hw := hw.2 c14
    refine z_iconst hX (v := (-1 : Int32)) dX1_undo_10 (by decide) ?_
    exact z_ireturn hX hR dX1_undo_11 rfl hw
abbrev cX1_saveSnapshot : ByteArray := prog_1_method_55_code
def yX1_saveSnapshot : MethodName := ⟨RX1, "saveSnapshot", "()V"⟩
def dkwX1_saveSnapshot_0 : List UInt8 := [42, 42, 180, 0, 46, 181, 0, 120, 177]
abbrev dktX1_saveSnapshot_0 : List UInt8 := dkwX1_saveSnapshot_0 ++ []
theorem dksX1_saveSnapshot_0 : cX1_saveSnapshot.data.toList.drop 0 = dktX1_saveSnapshot_0 := by decide +kernel
theorem dX1_saveSnapshot_0 : decode cX1_saveSnapshot 0 = .ok (.aload_n 0, 1) := dk_42 (dk_at dksX1_saveSnapshot_0 0 rfl rfl)
theorem dX1_saveSnapshot_1 : decode cX1_saveSnapshot 1 = .ok (.aload_n 0, 1) := dk_42 (dk_at dksX1_saveSnapshot_0 1 rfl rfl)
theorem dX1_saveSnapshot_2 : decode cX1_saveSnapshot 2 = .ok (.getfield 46, 3) := dk_180 0 46 (dk_at dksX1_saveSnapshot_0 2 rfl rfl)
theorem dX1_saveSnapshot_5 : decode cX1_saveSnapshot 5 = .ok (.putfield 120, 3) := dk_181 0 120 (dk_at dksX1_saveSnapshot_0 5 rfl rfl)
theorem dX1_saveSnapshot_8 : decode cX1_saveSnapshot 8 = .ok (.return_, 1) := dk_177 (dk_at dksX1_saveSnapshot_0 8 rfl rfl)
/-- PackingDuel.saveSnapshot()V -/
def zb45 (G : zPg) (C : zO) (args : List Value) (Q : zQ) (Y : zY) (σ : zS) : Prop := ∃ (a0 : Nat), args = [.ref a0] ∧ (zgR σ (some a0) 0 0 (fun v1 => zput σ G.1 (some a0) 0 1 (va_rf v1) (fun s7 => Q none s7)))
set_option maxHeartbeats 4000000 in
theorem wk45 {l : Launch} {g : zG} {d : Nat} {C : zO} (hG : zGk g) (hC : zSound l g d C) {args : List Value} {Q : zQ} {Y : zY} {σ : zS} (hw : zb45 (zpg g) C args Q Y σ) : zMet l g (d + 1) (⟨"PackingDuel", "saveSnapshot", "()V"⟩, Cond.code ⟨"PackingDuel", "saveSnapshot", "()V"⟩ prog_1_method_55_code 1 (Option.none : Option FieldType)) args σ Q Y := by
  obtain ⟨a0, rfl, hw⟩ := hw
  refine zof hG (by decide +kernel) [false] ⟨rfl, trivial⟩ (Nat.le_of_ble_eq_true rfl) (ls := [some (va_rf (some a0))]) rfl ?_
  intro X hX hR hTb hd1 hd2 hl hg hnm
  subst hl
  subst hg
  have hd : zDep X d := ⟨hd1, hd2⟩
  refine z_aload_n hX dX1_saveSnapshot_0 rfl (i := 0) rfl ?_
  refine z_aload_n hX dX1_saveSnapshot_1 rfl (i := 0) rfl ?_
  obtain ⟨a2, f3, v1, r4, m5, e6, hw⟩ := hw
  refine z_get hX zc0 (k := 0) dX1_saveSnapshot_2 (Nat.le_of_ble_eq_true rfl) (zlk hX q307) r4 m5 e6 ?_
  obtain ⟨a9, f10, r11, g12, m13, l14, hw⟩ := hw
  refine z_put hX zc0 (k := 1) dX1_saveSnapshot_5 (Nat.le_of_ble_eq_true rfl) (zlk hX q308) rfl (zn_o _ _) (zf_o _ _) r11 g12 m13 l14 (z_nm (fun s7 e8 => ?_))
  have hw := hw s7 e8
  exact z_return hX hR dX1_saveSnapshot_8 hw
abbrev cX1_restoreSnapshot : ByteArray := prog_1_method_56_code
def yX1_restoreSnapshot : MethodName := ⟨RX1, "restoreSnapshot", "()Z"⟩
def dkwX1_restoreSnapshot_1 : List UInt8 := [4, 172]
abbrev dktX1_restoreSnapshot_1 : List UInt8 := dkwX1_restoreSnapshot_1 ++ []
def dkwX1_restoreSnapshot_0 : List UInt8 := [42, 180, 0, 120, 199, 0, 5, 3, 172, 42, 42, 180, 0, 120, 181, 0, 46, 42, 180, 0, 53, 182, 0, 117]
abbrev dktX1_restoreSnapshot_0 : List UInt8 := dkwX1_restoreSnapshot_0 ++ dktX1_restoreSnapshot_1
theorem dksX1_restoreSnapshot_0 : cX1_restoreSnapshot.data.toList.drop 0 = dktX1_restoreSnapshot_0 := by decide +kernel
theorem dksX1_restoreSnapshot_1 : cX1_restoreSnapshot.data.toList.drop 24 = dktX1_restoreSnapshot_1 := dk_seg dksX1_restoreSnapshot_0 24 rfl rfl
theorem dX1_restoreSnapshot_0 : decode cX1_restoreSnapshot 0 = .ok (.aload_n 0, 1) := dk_42 (dk_at dksX1_restoreSnapshot_0 0 rfl rfl)
theorem dX1_restoreSnapshot_1 : decode cX1_restoreSnapshot 1 = .ok (.getfield 120, 3) := dk_180 0 120 (dk_at dksX1_restoreSnapshot_0 1 rfl rfl)
theorem dX1_restoreSnapshot_4 : decode cX1_restoreSnapshot 4 = .ok (.ifnonnull 5, 3) := dk_199 0 5 (dk_at dksX1_restoreSnapshot_0 4 rfl rfl)
theorem dX1_restoreSnapshot_7 : decode cX1_restoreSnapshot 7 = .ok (.iconst 0, 1) := dk_3 (dk_at dksX1_restoreSnapshot_0 7 rfl rfl)
theorem dX1_restoreSnapshot_8 : decode cX1_restoreSnapshot 8 = .ok (.ireturn, 1) := dk_172 (dk_at dksX1_restoreSnapshot_0 8 rfl rfl)
theorem dX1_restoreSnapshot_9 : decode cX1_restoreSnapshot 9 = .ok (.aload_n 0, 1) := dk_42 (dk_at dksX1_restoreSnapshot_0 9 rfl rfl)
theorem dX1_restoreSnapshot_10 : decode cX1_restoreSnapshot 10 = .ok (.aload_n 0, 1) := dk_42 (dk_at dksX1_restoreSnapshot_0 10 rfl rfl)
theorem dX1_restoreSnapshot_11 : decode cX1_restoreSnapshot 11 = .ok (.getfield 120, 3) := dk_180 0 120 (dk_at dksX1_restoreSnapshot_0 11 rfl rfl)
theorem dX1_restoreSnapshot_14 : decode cX1_restoreSnapshot 14 = .ok (.putfield 46, 3) := dk_181 0 46 (dk_at dksX1_restoreSnapshot_0 14 rfl rfl)
theorem dX1_restoreSnapshot_17 : decode cX1_restoreSnapshot 17 = .ok (.aload_n 0, 1) := dk_42 (dk_at dksX1_restoreSnapshot_0 17 rfl rfl)
theorem dX1_restoreSnapshot_18 : decode cX1_restoreSnapshot 18 = .ok (.getfield 53, 3) := dk_180 0 53 (dk_at dksX1_restoreSnapshot_0 18 rfl rfl)
theorem dX1_restoreSnapshot_21 : decode cX1_restoreSnapshot 21 = .ok (.invokevirtual 117, 3) := dk_182 0 117 (dk_at dksX1_restoreSnapshot_0 21 rfl rfl)
theorem dX1_restoreSnapshot_24 : decode cX1_restoreSnapshot 24 = .ok (.iconst 1, 1) := dk_4 (dk_at dksX1_restoreSnapshot_1 0 rfl rfl)
theorem dX1_restoreSnapshot_25 : decode cX1_restoreSnapshot 25 = .ok (.ireturn, 1) := dk_172 (dk_at dksX1_restoreSnapshot_1 1 rfl rfl)
/-- PackingDuel.restoreSnapshot()Z -/
def zb46 (G : zPg) (C : zO) (args : List Value) (Q : zQ) (Y : zY) (σ : zS) : Prop := ∃ (a0 : Nat), args = [.ref a0] ∧ (zgR σ (some a0) 0 1 (fun v1 => ((¬ v1 = none) → zgR σ (some a0) 0 1 (fun v8 => zput σ G.1 (some a0) 0 0 (va_rf v8) (fun s14 => zgR s14 (some a0) 0 2 (fun v22 => zrc s14 v22 3 (fun a31 => zcl C 152 [.ref a31] Y s14 (zqV (fun s29 => zbool (1 : Int32) ∧ Q (some (.int (1 : Int32))) s29))))))) ∧ ((v1 = none) → zbool (0 : Int32) ∧ Q (some (.int (0 : Int32))) σ)))
set_option maxHeartbeats 4000000 in
theorem wk46 {l : Launch} {g : zG} {d : Nat} {C : zO} (hG : zGk g) (hC : zSound l g d C) {args : List Value} {Q : zQ} {Y : zY} {σ : zS} (hw : zb46 (zpg g) C args Q Y σ) : zMet l g (d + 1) (⟨"PackingDuel", "restoreSnapshot", "()Z"⟩, Cond.code ⟨"PackingDuel", "restoreSnapshot", "()Z"⟩ prog_1_method_56_code 1 (Option.some FieldType.boolean)) args σ Q Y := by
  obtain ⟨a0, rfl, hw⟩ := hw
  refine zof hG (by decide +kernel) [false] ⟨rfl, trivial⟩ (Nat.le_of_ble_eq_true rfl) (ls := [some (va_rf (some a0))]) rfl ?_
  intro X hX hR hTb hd1 hd2 hl hg hnm
  subst hl
  subst hg
  have hd : zDep X d := ⟨hd1, hd2⟩
  refine z_aload_n hX dX1_restoreSnapshot_0 rfl (i := 0) rfl ?_
  obtain ⟨a2, f3, v1, r4, m5, e6, hw⟩ := hw
  refine z_get hX zc0 (k := 1) dX1_restoreSnapshot_1 (Nat.le_of_ble_eq_true rfl) (zlk hX q308) r4 m5 e6 ?_
  refine z_ifnonnull hX dX1_restoreSnapshot_4 (tgt := 9) rfl (fun c7 => ?_) (fun c7 => ?_)
  · have hw := hw.1 c7
    refine z_aload_n hX dX1_restoreSnapshot_9 rfl (i := 0) rfl ?_
    refine z_aload_n hX dX1_restoreSnapshot_10 rfl (i := 0) rfl ?_
    obtain ⟨a9, f10, v8, r11, m12, e13, hw⟩ := hw
    refine z_get hX zc0 (k := 1) dX1_restoreSnapshot_11 (Nat.le_of_ble_eq_true rfl) (zlk hX q308) r11 m12 e13 ?_
    obtain ⟨a16, f17, r18, g19, m20, l21, hw⟩ := hw
    refine z_put hX zc0 (k := 0) dX1_restoreSnapshot_14 (Nat.le_of_ble_eq_true rfl) (zlk hX q307) rfl (zn_o _ _) (zf_o _ _) r18 g19 m20 l21 (z_nm (fun s14 e15 => ?_))
    have hw := hw s14 e15
    refine z_aload_n hX dX1_restoreSnapshot_17 rfl (i := 0) rfl ?_
    obtain ⟨a23, f24, v22, r25, m26, e27, hw⟩ := hw
    refine z_get hX zc0 (k := 2) dX1_restoreSnapshot_18 (Nat.le_of_ble_eq_true rfl) (zlk hX q309) r25 m26 e27 ?_
    obtain ⟨a31, f32, r33, m34, hw⟩ := hw
    refine z_invV hX hd r33 (ci := 3) rfl rfl m34 dX1_restoreSnapshot_21 (hC 152 _ zm152 _ _ _ _ hw) q993 q994 q995 zh6 q996 q135 zn152 rfl (Nat.le_of_ble_eq_true rfl) (st := []) rfl (zcs8 (Nat.le_of_ble_eq_true rfl)) rfl (zkV (fun s29 hw => ?_)) (zout hX hR hTb)
    refine z_iconst hX (v := (1 : Int32)) dX1_restoreSnapshot_24 (by decide) ?_
    exact z_ireturn hX hR dX1_restoreSnapshot_25 (zn_z hw.1) hw.2
  · have hw := hw.2 c7
    refine z_iconst hX (v := (0 : Int32)) dX1_restoreSnapshot_7 (by decide) ?_
    exact z_ireturn hX hR dX1_restoreSnapshot_8 (zn_z hw.1) hw.2
abbrev cX1_formattedByte : ByteArray := prog_1_method_58_code
def yX1_formattedByte : MethodName := ⟨RX1, "formattedByte", "(I)I"⟩
def dkwX1_formattedByte_1 : List UInt8 := [182, 1, 134, 167, 0, 4, 2, 172]
abbrev dktX1_formattedByte_1 : List UInt8 := dkwX1_formattedByte_1 ++ []
def dkwX1_formattedByte_0 : List UInt8 := [27, 133, 9, 42, 180, 0, 67, 182, 1, 131, 4, 100, 133, 184, 0, 84, 153, 0, 14, 42, 180, 0, 67, 27]
abbrev dktX1_formattedByte_0 : List UInt8 := dkwX1_formattedByte_0 ++ dktX1_formattedByte_1
theorem dksX1_formattedByte_0 : cX1_formattedByte.data.toList.drop 0 = dktX1_formattedByte_0 := by decide +kernel
theorem dksX1_formattedByte_1 : cX1_formattedByte.data.toList.drop 24 = dktX1_formattedByte_1 := dk_seg dksX1_formattedByte_0 24 rfl rfl
theorem dX1_formattedByte_0 : decode cX1_formattedByte 0 = .ok (.iload_n 1, 1) := dk_27 (dk_at dksX1_formattedByte_0 0 rfl rfl)
theorem dX1_formattedByte_1 : decode cX1_formattedByte 1 = .ok (.i2l, 1) := dk_133 (dk_at dksX1_formattedByte_0 1 rfl rfl)
theorem dX1_formattedByte_2 : decode cX1_formattedByte 2 = .ok (.lconst 0, 1) := dk_9 (dk_at dksX1_formattedByte_0 2 rfl rfl)
theorem dX1_formattedByte_3 : decode cX1_formattedByte 3 = .ok (.aload_n 0, 1) := dk_42 (dk_at dksX1_formattedByte_0 3 rfl rfl)
theorem dX1_formattedByte_4 : decode cX1_formattedByte 4 = .ok (.getfield 67, 3) := dk_180 0 67 (dk_at dksX1_formattedByte_0 4 rfl rfl)
theorem dX1_formattedByte_7 : decode cX1_formattedByte 7 = .ok (.invokevirtual 387, 3) := dk_182 1 131 (dk_at dksX1_formattedByte_0 7 rfl rfl)
theorem dX1_formattedByte_10 : decode cX1_formattedByte 10 = .ok (.iconst 1, 1) := dk_4 (dk_at dksX1_formattedByte_0 10 rfl rfl)
theorem dX1_formattedByte_11 : decode cX1_formattedByte 11 = .ok (.isub, 1) := dk_100 (dk_at dksX1_formattedByte_0 11 rfl rfl)
theorem dX1_formattedByte_12 : decode cX1_formattedByte 12 = .ok (.i2l, 1) := dk_133 (dk_at dksX1_formattedByte_0 12 rfl rfl)
theorem dX1_formattedByte_13 : decode cX1_formattedByte 13 = .ok (.invokestatic 84, 3) := dk_184 0 84 (dk_at dksX1_formattedByte_0 13 rfl rfl)
theorem dX1_formattedByte_16 : decode cX1_formattedByte 16 = .ok (.ifCond .eq 14, 3) := dk_153 0 14 (dk_at dksX1_formattedByte_0 16 rfl rfl)
theorem dX1_formattedByte_19 : decode cX1_formattedByte 19 = .ok (.aload_n 0, 1) := dk_42 (dk_at dksX1_formattedByte_0 19 rfl rfl)
theorem dX1_formattedByte_20 : decode cX1_formattedByte 20 = .ok (.getfield 67, 3) := dk_180 0 67 (dk_at dksX1_formattedByte_0 20 rfl rfl)
theorem dX1_formattedByte_23 : decode cX1_formattedByte 23 = .ok (.iload_n 1, 1) := dk_27 (dk_at dksX1_formattedByte_0 23 rfl rfl)
theorem dX1_formattedByte_24 : decode cX1_formattedByte 24 = .ok (.invokevirtual 390, 3) := dk_182 1 134 (dk_at dksX1_formattedByte_1 0 rfl rfl)
theorem dX1_formattedByte_27 : decode cX1_formattedByte 27 = .ok (.goto 4, 3) := dk_167 0 4 (dk_at dksX1_formattedByte_1 3 rfl rfl)
theorem dX1_formattedByte_30 : decode cX1_formattedByte 30 = .ok (.iconst (-1), 1) := dk_2 (dk_at dksX1_formattedByte_1 6 rfl rfl)
theorem dX1_formattedByte_31 : decode cX1_formattedByte 31 = .ok (.ireturn, 1) := dk_172 (dk_at dksX1_formattedByte_1 7 rfl rfl)
/-- PackingDuel.formattedByte(I)I -/
def zb47 (G : zPg) (C : zO) (args : List Value) (Q : zQ) (Y : zY) (σ : zS) : Prop := ∃ (a0 : Nat) (x1 : Int32), args = [.ref a0, .int x1] ∧ (zgR σ (some a0) 0 6 (fun v1 => zrc σ v1 9 (fun a10 => zcl C 355 [.ref a10] Y σ (zqI (fun v7 s8 => zcl C 48 [.long x1.toInt64, .long (0 : Int64), .long ((v7 - (1 : Int32)).toInt64)] Y s8 (zqI (fun v14 s15 => zJ (fun (p17 : Int32) (s18 : zS) => Q (some (.int p17)) s18) (fun (j19 : Int32 → zS → Prop) => ((v14 = 0) → j19 (-1 : Int32) s15) ∧ ((¬ v14 = 0) → zgR s15 (some a0) 0 6 (fun v21 => zrc s15 v21 9 (fun a30 => zcl C 357 [.ref a30, .int x1] Y s15 (zqI (fun v27 s28 => j19 v27 s28)))))))))))))
set_option maxHeartbeats 4000000 in
theorem wk47 {l : Launch} {g : zG} {d : Nat} {C : zO} (hG : zGk g) (hC : zSound l g d C) {args : List Value} {Q : zQ} {Y : zY} {σ : zS} (hw : zb47 (zpg g) C args Q Y σ) : zMet l g (d + 1) (⟨"PackingDuel", "formattedByte", "(I)I"⟩, Cond.code ⟨"PackingDuel", "formattedByte", "(I)I"⟩ prog_1_method_58_code 2 (Option.some FieldType.int)) args σ Q Y := by
  obtain ⟨a0, x1, rfl, hw⟩ := hw
  refine zof hG (by decide +kernel) [false, false] ⟨rfl, rfl, trivial⟩ (Nat.le_of_ble_eq_true rfl) (ls := [some (va_rf (some a0)), some (.int x1)]) rfl ?_
  intro X hX hR hTb hd1 hd2 hl hg hnm
  subst hl
  subst hg
  have hd : zDep X d := ⟨hd1, hd2⟩
  refine z_iload_n hX dX1_formattedByte_0 rfl (i := 1) rfl ?_
  refine z_i2l hX dX1_formattedByte_1 ?_
  refine z_lconst hX (v := (0 : Int64)) dX1_formattedByte_2 (by decide) ?_
  refine z_aload_n hX dX1_formattedByte_3 rfl (i := 0) rfl ?_
  obtain ⟨a2, f3, v1, r4, m5, e6, hw⟩ := hw
  refine z_get hX zc0 (k := 6) dX1_formattedByte_4 (Nat.le_of_ble_eq_true rfl) (zlk hX q314) r4 m5 e6 ?_
  obtain ⟨a10, f11, r12, m13, hw⟩ := hw
  refine z_invV hX hd r12 (ci := 9) rfl rfl m13 dX1_formattedByte_7 (hC 355 _ zm355 _ _ _ _ hw) q1004 q1005 q1006 zh17 q1007 q146 zn355 rfl (Nat.le_of_ble_eq_true rfl) (st := [.long (0 : Int64), .long x1.toInt64]) rfl (zcs8 (Nat.le_of_ble_eq_true rfl)) rfl (zkI (fun v7 s8 hw => ?_)) (zout hX hR hTb)
  refine z_iconst hX (v := (1 : Int32)) dX1_formattedByte_10 (by decide) ?_
  refine z_isub hX dX1_formattedByte_11 ?_
  refine z_i2l hX dX1_formattedByte_12 ?_
  refine z_invS hX hd dX1_formattedByte_13 (hC 48 _ zm48 _ _ _ _ hw) q1014 q1015 zh1 q1016 q130 zn48 rfl (Nat.le_of_ble_eq_true rfl) (st := []) rfl (zcs8 (Nat.le_of_ble_eq_true rfl)) rfl (zkI (fun v14 s15 hw => ?_)) (zout hX hR hTb)
  refine zJ_w (P := fun (j : Int32 → zS → Prop) => ∀ (p17 : Int32) (s18 : zS), j p17 s18 → zW X s18 31 [none, none] [.int p17]) hw (fun p17 s18 hw => ?_) (fun j19 hj19 hw => ?_)
  · exact z_ireturn hX hR dX1_formattedByte_31 rfl hw
  · refine z_if_eq hX dX1_formattedByte_16 (tgt := 30) rfl (fun c20 => ?_) (fun c20 => ?_)
    · have hw := hw.1 c20
      refine z_iconst hX (v := (-1 : Int32)) dX1_formattedByte_30 (by decide) ?_
      refine z_sub (ls' := [none, none]) (zsN (zsN (zs0))) ?_
      exact hj19 _ _ hw
    · have hw := hw.2 c20
      refine z_aload_n hX dX1_formattedByte_19 rfl (i := 0) rfl ?_
      obtain ⟨a22, f23, v21, r24, m25, e26, hw⟩ := hw
      refine z_get hX zc0 (k := 6) dX1_formattedByte_20 (Nat.le_of_ble_eq_true rfl) (zlk hX q314) r24 m25 e26 ?_
      refine z_iload_n hX dX1_formattedByte_23 rfl (i := 1) rfl ?_
      obtain ⟨a30, f31, r32, m33, hw⟩ := hw
      refine z_invV hX hd r32 (ci := 9) rfl rfl m33 dX1_formattedByte_24 (hC 357 _ zm357 _ _ _ _ hw) q1017 q1018 q1019 zh17 q1020 q146 zn357 rfl (Nat.le_of_ble_eq_true rfl) (st := []) rfl (zcs8 (Nat.le_of_ble_eq_true rfl)) rfl (zkI (fun v27 s28 hw => ?_)) (zout hX hR hTb)
      refine z_goto hX dX1_formattedByte_27 (tgt := 31) rfl ?_
      refine z_sub (ls' := [none, none]) (zsN (zsN (zs0))) ?_
      exact hj19 _ _ hw
abbrev cX1_isIn : ByteArray := prog_1_method_1_code
def yX1_isIn : MethodName := ⟨RX1, "isIn", "(JJJ)Z"⟩
def dkwX1_isIn_0 : List UInt8 := [30, 32, 148, 155, 0, 14, 30, 22, 4, 148, 157, 0, 7, 4, 167, 0, 4, 3, 172]
abbrev dktX1_isIn_0 : List UInt8 := dkwX1_isIn_0 ++ []
theorem dksX1_isIn_0 : cX1_isIn.data.toList.drop 0 = dktX1_isIn_0 := by decide +kernel
theorem dX1_isIn_0 : decode cX1_isIn 0 = .ok (.lload_n 0, 1) := dk_30 (dk_at dksX1_isIn_0 0 rfl rfl)
theorem dX1_isIn_1 : decode cX1_isIn 1 = .ok (.lload_n 2, 1) := dk_32 (dk_at dksX1_isIn_0 1 rfl rfl)
theorem dX1_isIn_2 : decode cX1_isIn 2 = .ok (.lcmp, 1) := dk_148 (dk_at dksX1_isIn_0 2 rfl rfl)
theorem dX1_isIn_3 : decode cX1_isIn 3 = .ok (.ifCond .lt 14, 3) := dk_155 0 14 (dk_at dksX1_isIn_0 3 rfl rfl)
theorem dX1_isIn_6 : decode cX1_isIn 6 = .ok (.lload_n 0, 1) := dk_30 (dk_at dksX1_isIn_0 6 rfl rfl)
theorem dX1_isIn_7 : decode cX1_isIn 7 = .ok (.lload 4, 2) := dk_22 4 (dk_at dksX1_isIn_0 7 rfl rfl)
theorem dX1_isIn_9 : decode cX1_isIn 9 = .ok (.lcmp, 1) := dk_148 (dk_at dksX1_isIn_0 9 rfl rfl)
theorem dX1_isIn_10 : decode cX1_isIn 10 = .ok (.ifCond .gt 7, 3) := dk_157 0 7 (dk_at dksX1_isIn_0 10 rfl rfl)
theorem dX1_isIn_13 : decode cX1_isIn 13 = .ok (.iconst 1, 1) := dk_4 (dk_at dksX1_isIn_0 13 rfl rfl)
theorem dX1_isIn_14 : decode cX1_isIn 14 = .ok (.goto 4, 3) := dk_167 0 4 (dk_at dksX1_isIn_0 14 rfl rfl)
theorem dX1_isIn_17 : decode cX1_isIn 17 = .ok (.iconst 0, 1) := dk_3 (dk_at dksX1_isIn_0 17 rfl rfl)
theorem dX1_isIn_18 : decode cX1_isIn 18 = .ok (.ireturn, 1) := dk_172 (dk_at dksX1_isIn_0 18 rfl rfl)
/-- PackingDuel.isIn(JJJ)Z -/
def zb48 (G : zPg) (C : zO) (args : List Value) (Q : zQ) (Y : zY) (σ : zS) : Prop := ∃ (x1 : Int64) (x2 : Int64) (x3 : Int64), args = [.long x1, .long x2, .long x3] ∧ (zJ (fun (p1 : Int32) (s2 : zS) => zbool p1 ∧ Q (some (.int p1)) s2) (fun (j3 : Int32 → zS → Prop) => zJ (fun  (s4 : zS) => j3 (0 : Int32) s4) (fun (j5 : zS → Prop) => (((lg_cmp x1 x2) < 0) → j5 σ) ∧ ((¬ (lg_cmp x1 x2) < 0) → ((0 < (lg_cmp x1 x3)) → j5 σ) ∧ ((¬ 0 < (lg_cmp x1 x3)) → j3 (1 : Int32) σ)))))
set_option maxHeartbeats 4000000 in
theorem wk48 {l : Launch} {g : zG} {d : Nat} {C : zO} (hG : zGk g) (hC : zSound l g d C) {args : List Value} {Q : zQ} {Y : zY} {σ : zS} (hw : zb48 (zpg g) C args Q Y σ) : zMet l g (d + 1) (⟨"PackingDuel", "isIn", "(JJJ)Z"⟩, Cond.code ⟨"PackingDuel", "isIn", "(JJJ)Z"⟩ prog_1_method_1_code 6 (Option.some FieldType.boolean)) args σ Q Y := by
  obtain ⟨x1, x2, x3, rfl, hw⟩ := hw
  refine zof hG (by decide +kernel) [true, true, true] ⟨rfl, rfl, rfl, trivial⟩ (Nat.le_of_ble_eq_true rfl) (ls := [some (.long x1), none, some (.long x2), none, some (.long x3), none]) rfl ?_
  intro X hX hR hTb hd1 hd2 hl hg hnm
  subst hl
  subst hg
  have hd : zDep X d := ⟨hd1, hd2⟩
  refine z_lload_n hX dX1_isIn_0 rfl (i := 0) rfl ?_
  refine z_lload_n hX dX1_isIn_1 rfl (i := 2) rfl ?_
  refine z_lcmp hX dX1_isIn_2 ?_
  refine zJ_w (P := fun (j : Int32 → zS → Prop) => ∀ (p1 : Int32) (s2 : zS), j p1 s2 → zW X s2 18 [none, none, none, none, none, none] [.int p1]) hw (fun p1 s2 hw => ?_) (fun j3 hj3 hw => ?_)
  · exact z_ireturn hX hR dX1_isIn_18 (zn_z hw.1) hw.2
  · refine zJ_w (P := fun (j : zS → Prop) => ∀  (s4 : zS), j  s4 → zW X s4 17 [none, none, none, none, none, none] []) hw (fun  s4 hw => ?_) (fun j5 hj5 hw => ?_)
    · refine z_iconst hX (v := (0 : Int32)) dX1_isIn_17 (by decide) ?_
      exact hj3 _ _ hw
    · refine z_if_lt hX dX1_isIn_3 (tgt := 17) rfl (fun c6 => ?_) (fun c6 => ?_)
      · have hw := hw.1 c6
        refine z_sub (ls' := [none, none, none, none, none, none]) (zsN (zsN (zsN (zsN (zsN (zsN (zs0))))))) ?_
        exact hj5  _ hw
      · have hw := hw.2 c6
        refine z_lload_n hX dX1_isIn_6 rfl (i := 0) rfl ?_
        refine z_lload hX dX1_isIn_7 (i := 4) rfl ?_
        refine z_lcmp hX dX1_isIn_9 ?_
        refine z_if_gt hX dX1_isIn_10 (tgt := 17) rfl (fun c7 => ?_) (fun c7 => ?_)
        · have hw := hw.1 c7
          refine z_sub (ls' := [none, none, none, none, none, none]) (zsN (zsN (zsN (zsN (zsN (zsN (zs0))))))) ?_
          exact hj5  _ hw
        · have hw := hw.2 c7
          refine z_iconst hX (v := (1 : Int32)) dX1_isIn_13 (by decide) ?_
          refine z_goto hX dX1_isIn_14 (tgt := 18) rfl ?_
          refine z_sub (ls' := [none, none, none, none, none, none]) (zsN (zsN (zsN (zsN (zsN (zsN (zs0))))))) ?_
          exact hj3 _ _ hw
abbrev cX1_startReading : ByteArray := prog_1_method_10_code
def yX1_startReading : MethodName := ⟨RX1, "startReading", "(II)V"⟩
def dkwX1_startReading_1 : List UInt8 := [2, 181, 0, 61, 177]
abbrev dktX1_startReading_1 : List UInt8 := dkwX1_startReading_1 ++ []
def dkwX1_startReading_0 : List UInt8 := [27, 133, 9, 42, 180, 0, 71, 28, 184, 0, 78, 133, 184, 0, 84, 184, 0, 88, 42, 3, 181, 0, 71, 42]
abbrev dktX1_startReading_0 : List UInt8 := dkwX1_startReading_0 ++ dktX1_startReading_1
theorem dksX1_startReading_0 : cX1_startReading.data.toList.drop 0 = dktX1_startReading_0 := by decide +kernel
theorem dksX1_startReading_1 : cX1_startReading.data.toList.drop 24 = dktX1_startReading_1 := dk_seg dksX1_startReading_0 24 rfl rfl
theorem dX1_startReading_0 : decode cX1_startReading 0 = .ok (.iload_n 1, 1) := dk_27 (dk_at dksX1_startReading_0 0 rfl rfl)
theorem dX1_startReading_1 : decode cX1_startReading 1 = .ok (.i2l, 1) := dk_133 (dk_at dksX1_startReading_0 1 rfl rfl)
theorem dX1_startReading_2 : decode cX1_startReading 2 = .ok (.lconst 0, 1) := dk_9 (dk_at dksX1_startReading_0 2 rfl rfl)
theorem dX1_startReading_3 : decode cX1_startReading 3 = .ok (.aload_n 0, 1) := dk_42 (dk_at dksX1_startReading_0 3 rfl rfl)
theorem dX1_startReading_4 : decode cX1_startReading 4 = .ok (.getfield 71, 3) := dk_180 0 71 (dk_at dksX1_startReading_0 4 rfl rfl)
theorem dX1_startReading_7 : decode cX1_startReading 7 = .ok (.iload_n 2, 1) := dk_28 (dk_at dksX1_startReading_0 7 rfl rfl)
theorem dX1_startReading_8 : decode cX1_startReading 8 = .ok (.invokestatic 78, 3) := dk_184 0 78 (dk_at dksX1_startReading_0 8 rfl rfl)
theorem dX1_startReading_11 : decode cX1_startReading 11 = .ok (.i2l, 1) := dk_133 (dk_at dksX1_startReading_0 11 rfl rfl)
theorem dX1_startReading_12 : decode cX1_startReading 12 = .ok (.invokestatic 84, 3) := dk_184 0 84 (dk_at dksX1_startReading_0 12 rfl rfl)
theorem dX1_startReading_15 : decode cX1_startReading 15 = .ok (.invokestatic 88, 3) := dk_184 0 88 (dk_at dksX1_startReading_0 15 rfl rfl)
theorem dX1_startReading_18 : decode cX1_startReading 18 = .ok (.aload_n 0, 1) := dk_42 (dk_at dksX1_startReading_0 18 rfl rfl)
theorem dX1_startReading_19 : decode cX1_startReading 19 = .ok (.iconst 0, 1) := dk_3 (dk_at dksX1_startReading_0 19 rfl rfl)
theorem dX1_startReading_20 : decode cX1_startReading 20 = .ok (.putfield 71, 3) := dk_181 0 71 (dk_at dksX1_startReading_0 20 rfl rfl)
theorem dX1_startReading_23 : decode cX1_startReading 23 = .ok (.aload_n 0, 1) := dk_42 (dk_at dksX1_startReading_0 23 rfl rfl)
theorem dX1_startReading_24 : decode cX1_startReading 24 = .ok (.iconst (-1), 1) := dk_2 (dk_at dksX1_startReading_1 0 rfl rfl)
theorem dX1_startReading_25 : decode cX1_startReading 25 = .ok (.putfield 61, 3) := dk_181 0 61 (dk_at dksX1_startReading_1 1 rfl rfl)
theorem dX1_startReading_28 : decode cX1_startReading 28 = .ok (.return_, 1) := dk_177 (dk_at dksX1_startReading_1 4 rfl rfl)
/-- PackingDuel.startReading(II)V -/
def zb50 (G : zPg) (C : zO) (args : List Value) (Q : zQ) (Y : zY) (σ : zS) : Prop := ∃ (a0 : Nat) (x1 : Int32) (x2 : Int32), args = [.ref a0, .int x1, .int x2] ∧ (zgI σ (some a0) 0 4 (fun v1 => zcl C 295 [.int v1, .int x2] Y σ (zqI (fun v7 s8 => zcl C 48 [.long x1.toInt64, .long (0 : Int64), .long v7.toInt64] Y s8 (zqI (fun v10 s11 => zcl C 51 [.int v10] Y s11 (zqV (fun s14 => zput s14 G.1 (some a0) 0 4 (.int (0 : Int32)) (fun s16 => zput s16 G.1 (some a0) 0 5 (.int (-1 : Int32)) (fun s24 => Q none s24))))))))))
set_option maxHeartbeats 4000000 in
theorem wk50 {l : Launch} {g : zG} {d : Nat} {C : zO} (hG : zGk g) (hC : zSound l g d C) {args : List Value} {Q : zQ} {Y : zY} {σ : zS} (hw : zb50 (zpg g) C args Q Y σ) : zMet l g (d + 1) (⟨"PackingDuel", "startReading", "(II)V"⟩, Cond.code ⟨"PackingDuel", "startReading", "(II)V"⟩ prog_1_method_10_code 3 (Option.none : Option FieldType)) args σ Q Y := by
  obtain ⟨a0, x1, x2, rfl, hw⟩ := hw
  refine zof hG (by decide +kernel) [false, false, false] ⟨rfl, rfl, rfl, trivial⟩ (Nat.le_of_ble_eq_true rfl) (ls := [some (va_rf (some a0)), some (.int x1), some (.int x2)]) rfl ?_
  intro X hX hR hTb hd1 hd2 hl hg hnm
  subst hl
  subst hg
  have hd : zDep X d := ⟨hd1, hd2⟩
  refine z_iload_n hX dX1_startReading_0 rfl (i := 1) rfl ?_
  refine z_i2l hX dX1_startReading_1 ?_
  refine z_lconst hX (v := (0 : Int64)) dX1_startReading_2 (by decide) ?_
  refine z_aload_n hX dX1_startReading_3 rfl (i := 0) rfl ?_
  obtain ⟨a2, f3, v1, r4, m5, e6, hw⟩ := hw
  refine z_get hX zc0 (k := 4) dX1_startReading_4 (Nat.le_of_ble_eq_true rfl) (zlk hX q312) r4 m5 e6 ?_
  refine z_iload_n hX dX1_startReading_7 rfl (i := 2) rfl ?_
  refine z_invS hX hd dX1_startReading_8 (hC 295 _ zm295 _ _ _ _ hw) q1066 q479 zh8 q480 q137 zn295 rfl (Nat.le_of_ble_eq_true rfl) (st := [.long (0 : Int64), .long x1.toInt64]) rfl (zcs8 (Nat.le_of_ble_eq_true rfl)) rfl (zkI (fun v7 s8 hw => ?_)) (zout hX hR hTb)
  refine z_i2l hX dX1_startReading_11 ?_
  refine z_invS hX hd dX1_startReading_12 (hC 48 _ zm48 _ _ _ _ hw) q1014 q1015 zh1 q1016 q130 zn48 rfl (Nat.le_of_ble_eq_true rfl) (st := []) rfl (zcs8 (Nat.le_of_ble_eq_true rfl)) rfl (zkI (fun v10 s11 hw => ?_)) (zout hX hR hTb)
  refine z_invS hX hd dX1_startReading_15 (hC 51 _ zm51 _ _ _ _ hw) q1067 q1068 zh1 q1069 q130 zn51 rfl (Nat.le_of_ble_eq_true rfl) (st := []) rfl (zcs8 (Nat.le_of_ble_eq_true rfl)) rfl (zkV (fun s14 hw => ?_)) (zout hX hR hTb)
  refine z_aload_n hX dX1_startReading_18 rfl (i := 0) rfl ?_
  refine z_iconst hX (v := (0 : Int32)) dX1_startReading_19 (by decide) ?_
  obtain ⟨a18, f19, r20, g21, m22, l23, hw⟩ := hw
  refine z_put hX zc0 (k := 4) dX1_startReading_20 (Nat.le_of_ble_eq_true rfl) (zlk hX q312) rfl rfl rfl r20 g21 m22 l23 (z_nm (fun s16 e17 => ?_))
  have hw := hw s16 e17
  refine z_aload_n hX dX1_startReading_23 rfl (i := 0) rfl ?_
  refine z_iconst hX (v := (-1 : Int32)) dX1_startReading_24 (by decide) ?_
  obtain ⟨a26, f27, r28, g29, m30, l31, hw⟩ := hw
  refine z_put hX zc0 (k := 5) dX1_startReading_25 (Nat.le_of_ble_eq_true rfl) (zlk hX q313) rfl rfl rfl r28 g29 m30 l31 (z_nm (fun s24 e25 => ?_))
  have hw := hw s24 e25
  exact z_return hX hR dX1_startReading_28 hw
abbrev cX1_failed : ByteArray := prog_1_method_11_code
def yX1_failed : MethodName := ⟨RX1, "failed", "(LPackingDuel$TextError;I)I"⟩
def dkwX1_failed_0 : List UInt8 := [42, 43, 180, 0, 92, 181, 0, 61, 28, 43, 180, 0, 97, 100, 172]
abbrev dktX1_failed_0 : List UInt8 := dkwX1_failed_0 ++ []
theorem dksX1_failed_0 : cX1_failed.data.toList.drop 0 = dktX1_failed_0 := by decide +kernel
theorem dX1_failed_0 : decode cX1_failed 0 = .ok (.aload_n 0, 1) := dk_42 (dk_at dksX1_failed_0 0 rfl rfl)
theorem dX1_failed_1 : decode cX1_failed 1 = .ok (.aload_n 1, 1) := dk_43 (dk_at dksX1_failed_0 1 rfl rfl)
theorem dX1_failed_2 : decode cX1_failed 2 = .ok (.getfield 92, 3) := dk_180 0 92 (dk_at dksX1_failed_0 2 rfl rfl)
theorem dX1_failed_5 : decode cX1_failed 5 = .ok (.putfield 61, 3) := dk_181 0 61 (dk_at dksX1_failed_0 5 rfl rfl)
theorem dX1_failed_8 : decode cX1_failed 8 = .ok (.iload_n 2, 1) := dk_28 (dk_at dksX1_failed_0 8 rfl rfl)
theorem dX1_failed_9 : decode cX1_failed 9 = .ok (.aload_n 1, 1) := dk_43 (dk_at dksX1_failed_0 9 rfl rfl)
theorem dX1_failed_10 : decode cX1_failed 10 = .ok (.getfield 97, 3) := dk_180 0 97 (dk_at dksX1_failed_0 10 rfl rfl)
theorem dX1_failed_13 : decode cX1_failed 13 = .ok (.isub, 1) := dk_100 (dk_at dksX1_failed_0 13 rfl rfl)
theorem dX1_failed_14 : decode cX1_failed 14 = .ok (.ireturn, 1) := dk_172 (dk_at dksX1_failed_0 14 rfl rfl)
/-- PackingDuel.failed(LPackingDuel$TextError;I)I -/
def zb52 (G : zPg) (C : zO) (args : List Value) (Q : zQ) (Y : zY) (σ : zS) : Prop := ∃ (a0 : Nat) (x1 : Option Nat) (x2 : Int32), args = [.ref a0, va_rf x1, .int x2] ∧ (zgI σ x1 11 7 (fun v1 => zput σ G.1 (some a0) 0 5 (.int v1) (fun s7 => zgI s7 x1 11 6 (fun v15 => Q (some (.int (x2 - v15))) s7))))
set_option maxHeartbeats 4000000 in
theorem wk52 {l : Launch} {g : zG} {d : Nat} {C : zO} (hG : zGk g) (hC : zSound l g d C) {args : List Value} {Q : zQ} {Y : zY} {σ : zS} (hw : zb52 (zpg g) C args Q Y σ) : zMet l g (d + 1) (⟨"PackingDuel", "failed", "(LPackingDuel$TextError;I)I"⟩, Cond.code ⟨"PackingDuel", "failed", "(LPackingDuel$TextError;I)I"⟩ prog_1_method_11_code 3 (Option.some FieldType.int)) args σ Q Y := by
  obtain ⟨a0, x1, x2, rfl, hw⟩ := hw
  refine zof hG (by decide +kernel) [false, false, false] ⟨rfl, (zc_rf _), rfl, trivial⟩ (Nat.le_of_ble_eq_true rfl) (ls := [some (va_rf (some a0)), some (va_rf x1), some (.int x2)]) rfl ?_
  intro X hX hR hTb hd1 hd2 hl hg hnm
  subst hl
  subst hg
  have hd : zDep X d := ⟨hd1, hd2⟩
  refine z_aload_n hX dX1_failed_0 rfl (i := 0) rfl ?_
  refine z_aload_n hX dX1_failed_1 rfl (i := 1) rfl ?_
  obtain ⟨a2, f3, v1, r4, m5, e6, hw⟩ := hw
  refine z_get hX zc11 (k := 7) dX1_failed_2 (Nat.le_of_ble_eq_true rfl) (zlkN hX "PackingDuel" q1464) r4 m5 e6 ?_
  obtain ⟨a9, f10, r11, g12, m13, l14, hw⟩ := hw
  refine z_put hX zc0 (k := 5) dX1_failed_5 (Nat.le_of_ble_eq_true rfl) (zlk hX q313) rfl rfl rfl r11 g12 m13 l14 (z_nm (fun s7 e8 => ?_))
  have hw := hw s7 e8
  refine z_iload_n hX dX1_failed_8 rfl (i := 2) rfl ?_
  refine z_aload_n hX dX1_failed_9 rfl (i := 1) rfl ?_
  obtain ⟨a16, f17, v15, r18, m19, e20, hw⟩ := hw
  refine z_get hX zc11 (k := 6) dX1_failed_10 (Nat.le_of_ble_eq_true rfl) (zlkN hX "PackingDuel" q1462) r18 m19 e20 ?_
  refine z_isub hX dX1_failed_13 ?_
  exact z_ireturn hX hR dX1_failed_14 rfl hw
abbrev cX1_size : ByteArray := prog_1_method_14_code
def yX1_size : MethodName := ⟨RX1, "size", "(I)I"⟩
def dkwX1_size_5 : List UInt8 := [167, 0, 10, 42, 180, 0, 46, 182, 0, 156, 172]
abbrev dktX1_size_5 : List UInt8 := dkwX1_size_5 ++ []
def dkwX1_size_4 : List UInt8 := [180, 0, 46, 180, 0, 150, 182, 0, 126, 167, 0, 23, 42, 180, 0, 46, 180, 0, 153, 182, 0, 126]
abbrev dktX1_size_4 : List UInt8 := dkwX1_size_4 ++ dktX1_size_5
def dkwX1_size_3 : List UInt8 := [180, 0, 46, 180, 0, 139, 167, 0, 49, 42, 180, 0, 46, 180, 0, 142, 184, 0, 146, 167, 0, 36, 42]
abbrev dktX1_size_3 : List UInt8 := dkwX1_size_3 ++ dktX1_size_4
def dkwX1_size_2 : List UInt8 := [42, 180, 0, 46, 180, 0, 123, 182, 0, 126, 167, 0, 69, 42, 180, 0, 46, 180, 0, 136, 167, 0, 59, 42]
abbrev dktX1_size_2 : List UInt8 := dkwX1_size_2 ++ dktX1_size_3
def dkwX1_size_1 : List UInt8 := [170, 0, 0, 0, 0, 0, 111, 0, 0, 0, 0, 0, 0, 0, 5, 0, 0, 0, 39, 0, 0, 0, 52, 0, 0, 0, 62, 0, 0, 0, 72, 0, 0, 0, 85, 0, 0, 0, 98]
abbrev dktX1_size_1 : List UInt8 := dkwX1_size_1 ++ dktX1_size_2
def dkwX1_size_0 : List UInt8 := [27, 133, 9, 20, 0, 131, 184, 0, 84, 184, 0, 133, 27]
abbrev dktX1_size_0 : List UInt8 := dkwX1_size_0 ++ dktX1_size_1
theorem dksX1_size_0 : cX1_size.data.toList.drop 0 = dktX1_size_0 := by decide +kernel
theorem dksX1_size_1 : cX1_size.data.toList.drop 13 = dktX1_size_1 := dk_seg dksX1_size_0 13 rfl rfl
theorem dksX1_size_2 : cX1_size.data.toList.drop 52 = dktX1_size_2 := dk_seg dksX1_size_1 39 rfl rfl
theorem dksX1_size_3 : cX1_size.data.toList.drop 76 = dktX1_size_3 := dk_seg dksX1_size_2 24 rfl rfl
theorem dksX1_size_4 : cX1_size.data.toList.drop 99 = dktX1_size_4 := dk_seg dksX1_size_3 23 rfl rfl
theorem dksX1_size_5 : cX1_size.data.toList.drop 121 = dktX1_size_5 := dk_seg dksX1_size_4 22 rfl rfl
theorem dX1_size_0 : decode cX1_size 0 = .ok (.iload_n 1, 1) := dk_27 (dk_at dksX1_size_0 0 rfl rfl)
theorem dX1_size_1 : decode cX1_size 1 = .ok (.i2l, 1) := dk_133 (dk_at dksX1_size_0 1 rfl rfl)
theorem dX1_size_2 : decode cX1_size 2 = .ok (.lconst 0, 1) := dk_9 (dk_at dksX1_size_0 2 rfl rfl)
theorem dX1_size_3 : decode cX1_size 3 = .ok (.ldc2_w 131, 3) := dk_20 0 131 (dk_at dksX1_size_0 3 rfl rfl)
theorem dX1_size_6 : decode cX1_size 6 = .ok (.invokestatic 84, 3) := dk_184 0 84 (dk_at dksX1_size_0 6 rfl rfl)
theorem dX1_size_9 : decode cX1_size 9 = .ok (.invokestatic 133, 3) := dk_184 0 133 (dk_at dksX1_size_0 9 rfl rfl)
theorem dX1_size_12 : decode cX1_size 12 = .ok (.iload_n 1, 1) := dk_27 (dk_at dksX1_size_0 12 rfl rfl)
theorem dX1_size_13 : decode cX1_size 13 = .ok (.tableswitch 111 0 5 #[39, 52, 62, 72, 85, 98], 39) := by decide +kernel
theorem dX1_size_52 : decode cX1_size 52 = .ok (.aload_n 0, 1) := dk_42 (dk_at dksX1_size_2 0 rfl rfl)
theorem dX1_size_53 : decode cX1_size 53 = .ok (.getfield 46, 3) := dk_180 0 46 (dk_at dksX1_size_2 1 rfl rfl)
theorem dX1_size_56 : decode cX1_size 56 = .ok (.getfield 123, 3) := dk_180 0 123 (dk_at dksX1_size_2 4 rfl rfl)
theorem dX1_size_59 : decode cX1_size 59 = .ok (.invokevirtual 126, 3) := dk_182 0 126 (dk_at dksX1_size_2 7 rfl rfl)
theorem dX1_size_62 : decode cX1_size 62 = .ok (.goto 69, 3) := dk_167 0 69 (dk_at dksX1_size_2 10 rfl rfl)
theorem dX1_size_65 : decode cX1_size 65 = .ok (.aload_n 0, 1) := dk_42 (dk_at dksX1_size_2 13 rfl rfl)
theorem dX1_size_66 : decode cX1_size 66 = .ok (.getfield 46, 3) := dk_180 0 46 (dk_at dksX1_size_2 14 rfl rfl)
theorem dX1_size_69 : decode cX1_size 69 = .ok (.getfield 136, 3) := dk_180 0 136 (dk_at dksX1_size_2 17 rfl rfl)
theorem dX1_size_72 : decode cX1_size 72 = .ok (.goto 59, 3) := dk_167 0 59 (dk_at dksX1_size_2 20 rfl rfl)
theorem dX1_size_75 : decode cX1_size 75 = .ok (.aload_n 0, 1) := dk_42 (dk_at dksX1_size_2 23 rfl rfl)
theorem dX1_size_76 : decode cX1_size 76 = .ok (.getfield 46, 3) := dk_180 0 46 (dk_at dksX1_size_3 0 rfl rfl)
theorem dX1_size_79 : decode cX1_size 79 = .ok (.getfield 139, 3) := dk_180 0 139 (dk_at dksX1_size_3 3 rfl rfl)
theorem dX1_size_82 : decode cX1_size 82 = .ok (.goto 49, 3) := dk_167 0 49 (dk_at dksX1_size_3 6 rfl rfl)
theorem dX1_size_85 : decode cX1_size 85 = .ok (.aload_n 0, 1) := dk_42 (dk_at dksX1_size_3 9 rfl rfl)
theorem dX1_size_86 : decode cX1_size 86 = .ok (.getfield 46, 3) := dk_180 0 46 (dk_at dksX1_size_3 10 rfl rfl)
theorem dX1_size_89 : decode cX1_size 89 = .ok (.getfield 142, 3) := dk_180 0 142 (dk_at dksX1_size_3 13 rfl rfl)
theorem dX1_size_92 : decode cX1_size 92 = .ok (.invokestatic 146, 3) := dk_184 0 146 (dk_at dksX1_size_3 16 rfl rfl)
theorem dX1_size_95 : decode cX1_size 95 = .ok (.goto 36, 3) := dk_167 0 36 (dk_at dksX1_size_3 19 rfl rfl)
theorem dX1_size_98 : decode cX1_size 98 = .ok (.aload_n 0, 1) := dk_42 (dk_at dksX1_size_3 22 rfl rfl)
theorem dX1_size_99 : decode cX1_size 99 = .ok (.getfield 46, 3) := dk_180 0 46 (dk_at dksX1_size_4 0 rfl rfl)
theorem dX1_size_102 : decode cX1_size 102 = .ok (.getfield 150, 3) := dk_180 0 150 (dk_at dksX1_size_4 3 rfl rfl)
theorem dX1_size_105 : decode cX1_size 105 = .ok (.invokevirtual 126, 3) := dk_182 0 126 (dk_at dksX1_size_4 6 rfl rfl)
theorem dX1_size_108 : decode cX1_size 108 = .ok (.goto 23, 3) := dk_167 0 23 (dk_at dksX1_size_4 9 rfl rfl)
theorem dX1_size_111 : decode cX1_size 111 = .ok (.aload_n 0, 1) := dk_42 (dk_at dksX1_size_4 12 rfl rfl)
theorem dX1_size_112 : decode cX1_size 112 = .ok (.getfield 46, 3) := dk_180 0 46 (dk_at dksX1_size_4 13 rfl rfl)
theorem dX1_size_115 : decode cX1_size 115 = .ok (.getfield 153, 3) := dk_180 0 153 (dk_at dksX1_size_4 16 rfl rfl)
theorem dX1_size_118 : decode cX1_size 118 = .ok (.invokevirtual 126, 3) := dk_182 0 126 (dk_at dksX1_size_4 19 rfl rfl)
theorem dX1_size_121 : decode cX1_size 121 = .ok (.goto 10, 3) := dk_167 0 10 (dk_at dksX1_size_5 0 rfl rfl)
theorem dX1_size_124 : decode cX1_size 124 = .ok (.aload_n 0, 1) := dk_42 (dk_at dksX1_size_5 3 rfl rfl)
theorem dX1_size_125 : decode cX1_size 125 = .ok (.getfield 46, 3) := dk_180 0 46 (dk_at dksX1_size_5 4 rfl rfl)
theorem dX1_size_128 : decode cX1_size 128 = .ok (.invokevirtual 156, 3) := dk_182 0 156 (dk_at dksX1_size_5 7 rfl rfl)
theorem dX1_size_131 : decode cX1_size 131 = .ok (.ireturn, 1) := dk_172 (dk_at dksX1_size_5 10 rfl rfl)
/-- PackingDuel.size(I)I -/
def zb53 (G : zPg) (C : zO) (args : List Value) (Q : zQ) (Y : zY) (σ : zS) : Prop := ∃ (a0 : Nat) (x1 : Int32), args = [.ref a0, .int x1] ∧ (zcl C 48 [.long x1.toInt64, .long (0 : Int64), .long (6 : Int64)] Y σ (zqI (fun v1 s2 => zcl C 54 [.int v1] Y s2 (zqV (fun s5 => zJ (fun (p7 : Int32) (s8 : zS) => Q (some (.int p7)) s8) (fun (j9 : Int32 → zS → Prop) => (x1.toInt < (0) ∨ (5) < x1.toInt → zgR s5 (some a0) 0 0 (fun v12 => zrc s5 v12 1 (fun a21 => zcl C 103 [.ref a21] Y s5 (zqI (fun v18 s19 => j9 v18 s19))))) ∧ (x1 = (0) → zgR s5 (some a0) 0 0 (fun v25 => zgR s5 v25 1 0 (fun v31 => zrc s5 v31 2 (fun a40 => zcl C 128 [.ref a40] Y s5 (zqI (fun v37 s38 => j9 v37 s38)))))) ∧ (x1 = (1) → zgR s5 (some a0) 0 0 (fun v44 => zgI s5 v44 1 3 (fun v50 => j9 v50 s5))) ∧ (x1 = (2) → zgR s5 (some a0) 0 0 (fun v56 => zgI s5 v56 1 4 (fun v62 => j9 v62 s5))) ∧ (x1 = (3) → zgR s5 (some a0) 0 0 (fun v68 => zgI s5 v68 1 5 (fun v74 => zcl C 27 [.int v74] Y s5 (zqI (fun v80 s81 => j9 v80 s81))))) ∧ (x1 = (4) → zgR s5 (some a0) 0 0 (fun v83 => zgR s5 v83 1 1 (fun v89 => zrc s5 v89 2 (fun a98 => zcl C 128 [.ref a98] Y s5 (zqI (fun v95 s96 => j9 v95 s96)))))) ∧ (x1 = (5) → zgR s5 (some a0) 0 0 (fun v102 => zgR s5 v102 1 2 (fun v108 => zrc s5 v108 2 (fun a117 => zcl C 128 [.ref a117] Y s5 (zqI (fun v114 s115 => j9 v114 s115))))))))))))
set_option maxHeartbeats 4000000 in
theorem wk53 {l : Launch} {g : zG} {d : Nat} {C : zO} (hG : zGk g) (hC : zSound l g d C) {args : List Value} {Q : zQ} {Y : zY} {σ : zS} (hw : zb53 (zpg g) C args Q Y σ) : zMet l g (d + 1) (⟨"PackingDuel", "size", "(I)I"⟩, Cond.code ⟨"PackingDuel", "size", "(I)I"⟩ prog_1_method_14_code 2 (Option.some FieldType.int)) args σ Q Y := by
  obtain ⟨a0, x1, rfl, hw⟩ := hw
  refine zof hG (by decide +kernel) [false, false] ⟨rfl, rfl, trivial⟩ (Nat.le_of_ble_eq_true rfl) (ls := [some (va_rf (some a0)), some (.int x1)]) rfl ?_
  intro X hX hR hTb hd1 hd2 hl hg hnm
  subst hl
  subst hg
  have hd : zDep X d := ⟨hd1, hd2⟩
  refine z_iload_n hX dX1_size_0 rfl (i := 1) rfl ?_
  refine z_i2l hX dX1_size_1 ?_
  refine z_lconst hX (v := (0 : Int64)) dX1_size_2 (by decide) ?_
  refine z_ldc2 hX dX1_size_3 q1639 ?_
  refine z_invS hX hd dX1_size_6 (hC 48 _ zm48 _ _ _ _ hw) q1014 q1015 zh1 q1016 q130 zn48 rfl (Nat.le_of_ble_eq_true rfl) (st := []) rfl (zcs8 (Nat.le_of_ble_eq_true rfl)) rfl (zkI (fun v1 s2 hw => ?_)) (zout hX hR hTb)
  refine z_invS hX hd dX1_size_9 (hC 54 _ zm54 _ _ _ _ hw) q1640 q1641 zh1 q1642 q130 zn54 rfl (Nat.le_of_ble_eq_true rfl) (st := []) rfl (zcs8 (Nat.le_of_ble_eq_true rfl)) rfl (zkV (fun s5 hw => ?_)) (zout hX hR hTb)
  refine z_iload_n hX dX1_size_12 rfl (i := 1) rfl ?_
  refine zJ_w (P := fun (j : Int32 → zS → Prop) => ∀ (p7 : Int32) (s8 : zS), j p7 s8 → zW X s8 131 [none, none] [.int p7]) hw (fun p7 s8 hw => ?_) (fun j9 hj9 hw => ?_)
  · exact z_ireturn hX hR dX1_size_131 rfl hw
  · rcases zsw x1 0 6 (by decide) (by decide) with c10 | ⟨j11, hj11, c10⟩
    · have c10 : x1.toInt < (0) ∨ (5) < x1.toInt := by omega
      refine z_tableOut hX dX1_size_13 c10 (tgt := 124) rfl ?_
      have hw := hw.1 c10
      refine z_aload_n hX dX1_size_124 rfl (i := 0) rfl ?_
      obtain ⟨a13, f14, v12, r15, m16, e17, hw⟩ := hw
      refine z_get hX zc0 (k := 0) dX1_size_125 (Nat.le_of_ble_eq_true rfl) (zlk hX q307) r15 m16 e17 ?_
      obtain ⟨a21, f22, r23, m24, hw⟩ := hw
      refine z_invV hX hd r23 (ci := 1) rfl rfl m24 dX1_size_128 (hC 103 _ zm103 _ _ _ _ hw) q741 q742 q743 zh2 q744 q131 zn103 rfl (Nat.le_of_ble_eq_true rfl) (st := []) rfl (zcs8 (Nat.le_of_ble_eq_true rfl)) rfl (zkI (fun v18 s19 hw => ?_)) (zout hX hR hTb)
      refine z_sub (ls' := [none, none]) (zsN (zsN (zs0))) ?_
      exact hj9 _ _ hw
    · match j11, hj11, c10 with
      | 0, _, c10 =>
        have c10 : x1 = (0) := c10
        refine z_tableIn hX dX1_size_13 (by rw [c10]; decide) (by rw [c10]; decide) (off := 39) (by rw [c10]; rfl) (tgt := 52) rfl ?_
        have hw := hw.2.1 c10
        refine z_aload_n hX dX1_size_52 rfl (i := 0) rfl ?_
        obtain ⟨a26, f27, v25, r28, m29, e30, hw⟩ := hw
        refine z_get hX zc0 (k := 0) dX1_size_53 (Nat.le_of_ble_eq_true rfl) (zlk hX q307) r28 m29 e30 ?_
        obtain ⟨a32, f33, v31, r34, m35, e36, hw⟩ := hw
        refine z_get hX zc1 (k := 0) dX1_size_56 (Nat.le_of_ble_eq_true rfl) (zlkN hX "PackingDuel" q228) r34 m35 e36 ?_
        obtain ⟨a40, f41, r42, m43, hw⟩ := hw
        refine z_invV hX hd r42 (ci := 2) rfl rfl m43 dX1_size_59 (hC 128 _ zm128 _ _ _ _ hw) q1630 q362 q363 zh5 q364 q134 zn128 rfl (Nat.le_of_ble_eq_true rfl) (st := []) rfl (zcs8 (Nat.le_of_ble_eq_true rfl)) rfl (zkI (fun v37 s38 hw => ?_)) (zout hX hR hTb)
        refine z_goto hX dX1_size_62 (tgt := 131) rfl ?_
        refine z_sub (ls' := [none, none]) (zsN (zsN (zs0))) ?_
        exact hj9 _ _ hw
      | 1, _, c10 =>
        have c10 : x1 = (1) := c10
        refine z_tableIn hX dX1_size_13 (by rw [c10]; decide) (by rw [c10]; decide) (off := 52) (by rw [c10]; rfl) (tgt := 65) rfl ?_
        have hw := hw.2.2.1 c10
        refine z_aload_n hX dX1_size_65 rfl (i := 0) rfl ?_
        obtain ⟨a45, f46, v44, r47, m48, e49, hw⟩ := hw
        refine z_get hX zc0 (k := 0) dX1_size_66 (Nat.le_of_ble_eq_true rfl) (zlk hX q307) r47 m48 e49 ?_
        obtain ⟨a51, f52, v50, r53, m54, e55, hw⟩ := hw
        refine z_get hX zc1 (k := 3) dX1_size_69 (Nat.le_of_ble_eq_true rfl) (zlkN hX "PackingDuel" q236) r53 m54 e55 ?_
        refine z_goto hX dX1_size_72 (tgt := 131) rfl ?_
        refine z_sub (ls' := [none, none]) (zsN (zsN (zs0))) ?_
        exact hj9 _ _ hw
      | 2, _, c10 =>
        have c10 : x1 = (2) := c10
        refine z_tableIn hX dX1_size_13 (by rw [c10]; decide) (by rw [c10]; decide) (off := 62) (by rw [c10]; rfl) (tgt := 75) rfl ?_
        have hw := hw.2.2.2.1 c10
        refine z_aload_n hX dX1_size_75 rfl (i := 0) rfl ?_
        obtain ⟨a57, f58, v56, r59, m60, e61, hw⟩ := hw
        refine z_get hX zc0 (k := 0) dX1_size_76 (Nat.le_of_ble_eq_true rfl) (zlk hX q307) r59 m60 e61 ?_
        obtain ⟨a63, f64, v62, r65, m66, e67, hw⟩ := hw
        refine z_get hX zc1 (k := 4) dX1_size_79 (Nat.le_of_ble_eq_true rfl) (zlkN hX "PackingDuel" q240) r65 m66 e67 ?_
        refine z_goto hX dX1_size_82 (tgt := 131) rfl ?_
        refine z_sub (ls' := [none, none]) (zsN (zsN (zs0))) ?_
        exact hj9 _ _ hw
      | 3, _, c10 =>
        have c10 : x1 = (3) := c10
        refine z_tableIn hX dX1_size_13 (by rw [c10]; decide) (by rw [c10]; decide) (off := 72) (by rw [c10]; rfl) (tgt := 85) rfl ?_
        have hw := hw.2.2.2.2.1 c10
        refine z_aload_n hX dX1_size_85 rfl (i := 0) rfl ?_
        obtain ⟨a69, f70, v68, r71, m72, e73, hw⟩ := hw
        refine z_get hX zc0 (k := 0) dX1_size_86 (Nat.le_of_ble_eq_true rfl) (zlk hX q307) r71 m72 e73 ?_
        obtain ⟨a75, f76, v74, r77, m78, e79, hw⟩ := hw
        refine z_get hX zc1 (k := 5) dX1_size_89 (Nat.le_of_ble_eq_true rfl) (zlkN hX "PackingDuel" q243) r77 m78 e79 ?_
        refine z_invS hX hd dX1_size_92 (hC 27 _ zm27 _ _ _ _ hw) q753 q446 zh1 q447 q130 zn27 rfl (Nat.le_of_ble_eq_true rfl) (st := []) rfl (zcs8 (Nat.le_of_ble_eq_true rfl)) rfl (zkI (fun v80 s81 hw => ?_)) (zout hX hR hTb)
        refine z_goto hX dX1_size_95 (tgt := 131) rfl ?_
        refine z_sub (ls' := [none, none]) (zsN (zsN (zs0))) ?_
        exact hj9 _ _ hw
      | 4, _, c10 =>
        have c10 : x1 = (4) := c10
        refine z_tableIn hX dX1_size_13 (by rw [c10]; decide) (by rw [c10]; decide) (off := 85) (by rw [c10]; rfl) (tgt := 98) rfl ?_
        have hw := hw.2.2.2.2.2.1 c10
        refine z_aload_n hX dX1_size_98 rfl (i := 0) rfl ?_
        obtain ⟨a84, f85, v83, r86, m87, e88, hw⟩ := hw
        refine z_get hX zc0 (k := 0) dX1_size_99 (Nat.le_of_ble_eq_true rfl) (zlk hX q307) r86 m87 e88 ?_
        obtain ⟨a90, f91, v89, r92, m93, e94, hw⟩ := hw
        refine z_get hX zc1 (k := 1) dX1_size_102 (Nat.le_of_ble_eq_true rfl) (zlkN hX "PackingDuel" q230) r92 m93 e94 ?_
        obtain ⟨a98, f99, r100, m101, hw⟩ := hw
        refine z_invV hX hd r100 (ci := 2) rfl rfl m101 dX1_size_105 (hC 128 _ zm128 _ _ _ _ hw) q1630 q362 q363 zh5 q364 q134 zn128 rfl (Nat.le_of_ble_eq_true rfl) (st := []) rfl (zcs8 (Nat.le_of_ble_eq_true rfl)) rfl (zkI (fun v95 s96 hw => ?_)) (zout hX hR hTb)
        refine z_goto hX dX1_size_108 (tgt := 131) rfl ?_
        refine z_sub (ls' := [none, none]) (zsN (zsN (zs0))) ?_
        exact hj9 _ _ hw
      | 5, _, c10 =>
        have c10 : x1 = (5) := c10
        refine z_tableIn hX dX1_size_13 (by rw [c10]; decide) (by rw [c10]; decide) (off := 98) (by rw [c10]; rfl) (tgt := 111) rfl ?_
        have hw := hw.2.2.2.2.2.2 c10
        refine z_aload_n hX dX1_size_111 rfl (i := 0) rfl ?_
        obtain ⟨a103, f104, v102, r105, m106, e107, hw⟩ := hw
        refine z_get hX zc0 (k := 0) dX1_size_112 (Nat.le_of_ble_eq_true rfl) (zlk hX q307) r105 m106 e107 ?_
        obtain ⟨a109, f110, v108, r111, m112, e113, hw⟩ := hw
        refine z_get hX zc1 (k := 2) dX1_size_115 (Nat.le_of_ble_eq_true rfl) (zlkN hX "PackingDuel" q232) r111 m112 e113 ?_
        obtain ⟨a117, f118, r119, m120, hw⟩ := hw
        refine z_invV hX hd r119 (ci := 2) rfl rfl m120 dX1_size_118 (hC 128 _ zm128 _ _ _ _ hw) q1630 q362 q363 zh5 q364 q134 zn128 rfl (Nat.le_of_ble_eq_true rfl) (st := []) rfl (zcs8 (Nat.le_of_ble_eq_true rfl)) rfl (zkI (fun v114 s115 hw => ?_)) (zout hX hR hTb)
        refine z_goto hX dX1_size_121 (tgt := 131) rfl ?_
        refine z_sub (ls' := [none, none]) (zsN (zsN (zs0))) ?_
        exact hj9 _ _ hw
      | j11 + 6, h, _ => exact absurd h (by omega)
abbrev cX1_item : ByteArray := prog_1_method_17_code
def yX1_item : MethodName := ⟨RX1, "item", "(II)I"⟩
def dkwX1_item_1 : List UInt8 := [182, 0, 171, 172]
abbrev dktX1_item_1 : List UInt8 := dkwX1_item_1 ++ []
def dkwX1_item_0 : List UInt8 := [42, 27, 182, 0, 166, 28, 133, 9, 20, 0, 169, 184, 0, 84, 184, 0, 133, 42, 180, 0, 46, 27, 28]
abbrev dktX1_item_0 : List UInt8 := dkwX1_item_0 ++ dktX1_item_1
theorem dksX1_item_0 : cX1_item.data.toList.drop 0 = dktX1_item_0 := by decide +kernel
theorem dksX1_item_1 : cX1_item.data.toList.drop 23 = dktX1_item_1 := dk_seg dksX1_item_0 23 rfl rfl
theorem dX1_item_0 : decode cX1_item 0 = .ok (.aload_n 0, 1) := dk_42 (dk_at dksX1_item_0 0 rfl rfl)
theorem dX1_item_1 : decode cX1_item 1 = .ok (.iload_n 1, 1) := dk_27 (dk_at dksX1_item_0 1 rfl rfl)
theorem dX1_item_2 : decode cX1_item 2 = .ok (.invokevirtual 166, 3) := dk_182 0 166 (dk_at dksX1_item_0 2 rfl rfl)
theorem dX1_item_5 : decode cX1_item 5 = .ok (.iload_n 2, 1) := dk_28 (dk_at dksX1_item_0 5 rfl rfl)
theorem dX1_item_6 : decode cX1_item 6 = .ok (.i2l, 1) := dk_133 (dk_at dksX1_item_0 6 rfl rfl)
theorem dX1_item_7 : decode cX1_item 7 = .ok (.lconst 0, 1) := dk_9 (dk_at dksX1_item_0 7 rfl rfl)
theorem dX1_item_8 : decode cX1_item 8 = .ok (.ldc2_w 169, 3) := dk_20 0 169 (dk_at dksX1_item_0 8 rfl rfl)
theorem dX1_item_11 : decode cX1_item 11 = .ok (.invokestatic 84, 3) := dk_184 0 84 (dk_at dksX1_item_0 11 rfl rfl)
theorem dX1_item_14 : decode cX1_item 14 = .ok (.invokestatic 133, 3) := dk_184 0 133 (dk_at dksX1_item_0 14 rfl rfl)
theorem dX1_item_17 : decode cX1_item 17 = .ok (.aload_n 0, 1) := dk_42 (dk_at dksX1_item_0 17 rfl rfl)
theorem dX1_item_18 : decode cX1_item 18 = .ok (.getfield 46, 3) := dk_180 0 46 (dk_at dksX1_item_0 18 rfl rfl)
theorem dX1_item_21 : decode cX1_item 21 = .ok (.iload_n 1, 1) := dk_27 (dk_at dksX1_item_0 21 rfl rfl)
theorem dX1_item_22 : decode cX1_item 22 = .ok (.iload_n 2, 1) := dk_28 (dk_at dksX1_item_0 22 rfl rfl)
theorem dX1_item_23 : decode cX1_item 23 = .ok (.invokevirtual 171, 3) := dk_182 0 171 (dk_at dksX1_item_1 0 rfl rfl)
theorem dX1_item_26 : decode cX1_item 26 = .ok (.ireturn, 1) := dk_172 (dk_at dksX1_item_1 3 rfl rfl)
/-- PackingDuel.item(II)I -/
def zb55 (G : zPg) (C : zO) (args : List Value) (Q : zQ) (Y : zY) (σ : zS) : Prop := ∃ (a0 : Nat) (x1 : Int32) (x2 : Int32), args = [.ref a0, .int x1, .int x2] ∧ (zrc σ (some a0) 0 (fun a4 => zcl C 56 [.ref a4, .int x1] Y σ (zqV (fun s2 => zcl C 48 [.long x2.toInt64, .long (0 : Int64), .long (3 : Int64)] Y s2 (zqI (fun v8 s9 => zcl C 54 [.int v8] Y s9 (zqV (fun s12 => zgR s12 (some a0) 0 0 (fun v14 => zrc s12 v14 1 (fun a23 => zcl C 94 [.ref a23, .int x1, .int x2] Y s12 (zqI (fun v20 s21 => Q (some (.int v20)) s21))))))))))))
set_option maxHeartbeats 4000000 in
theorem wk55 {l : Launch} {g : zG} {d : Nat} {C : zO} (hG : zGk g) (hC : zSound l g d C) {args : List Value} {Q : zQ} {Y : zY} {σ : zS} (hw : zb55 (zpg g) C args Q Y σ) : zMet l g (d + 1) (⟨"PackingDuel", "item", "(II)I"⟩, Cond.code ⟨"PackingDuel", "item", "(II)I"⟩ prog_1_method_17_code 3 (Option.some FieldType.int)) args σ Q Y := by
  obtain ⟨a0, x1, x2, rfl, hw⟩ := hw
  refine zof hG (by decide +kernel) [false, false, false] ⟨rfl, rfl, rfl, trivial⟩ (Nat.le_of_ble_eq_true rfl) (ls := [some (va_rf (some a0)), some (.int x1), some (.int x2)]) rfl ?_
  intro X hX hR hTb hd1 hd2 hl hg hnm
  subst hl
  subst hg
  have hd : zDep X d := ⟨hd1, hd2⟩
  refine z_aload_n hX dX1_item_0 rfl (i := 0) rfl ?_
  refine z_iload_n hX dX1_item_1 rfl (i := 1) rfl ?_
  obtain ⟨a4, f5, r6, m7, hw⟩ := hw
  refine z_invV hX hd r6 (ci := 0) rfl rfl m7 dX1_item_2 (hC 56 _ zm56 _ _ _ _ hw) q1652 q1654 qs25 zh1 q1655 q130 zn56 rfl (Nat.le_of_ble_eq_true rfl) (st := []) rfl (zcs8 (Nat.le_of_ble_eq_true rfl)) rfl (zkV (fun s2 hw => ?_)) (zout hX hR hTb)
  refine z_iload_n hX dX1_item_5 rfl (i := 2) rfl ?_
  refine z_i2l hX dX1_item_6 ?_
  refine z_lconst hX (v := (0 : Int64)) dX1_item_7 (by decide) ?_
  refine z_ldc2 hX dX1_item_8 q1656 ?_
  refine z_invS hX hd dX1_item_11 (hC 48 _ zm48 _ _ _ _ hw) q1014 q1015 zh1 q1016 q130 zn48 rfl (Nat.le_of_ble_eq_true rfl) (st := []) rfl (zcs8 (Nat.le_of_ble_eq_true rfl)) rfl (zkI (fun v8 s9 hw => ?_)) (zout hX hR hTb)
  refine z_invS hX hd dX1_item_14 (hC 54 _ zm54 _ _ _ _ hw) q1640 q1641 zh1 q1642 q130 zn54 rfl (Nat.le_of_ble_eq_true rfl) (st := []) rfl (zcs8 (Nat.le_of_ble_eq_true rfl)) rfl (zkV (fun s12 hw => ?_)) (zout hX hR hTb)
  refine z_aload_n hX dX1_item_17 rfl (i := 0) rfl ?_
  obtain ⟨a15, f16, v14, r17, m18, e19, hw⟩ := hw
  refine z_get hX zc0 (k := 0) dX1_item_18 (Nat.le_of_ble_eq_true rfl) (zlk hX q307) r17 m18 e19 ?_
  refine z_iload_n hX dX1_item_21 rfl (i := 1) rfl ?_
  refine z_iload_n hX dX1_item_22 rfl (i := 2) rfl ?_
  obtain ⟨a23, f24, r25, m26, hw⟩ := hw
  refine z_invV hX hd r25 (ci := 1) rfl rfl m26 dX1_item_23 (hC 94 _ zm94 _ _ _ _ hw) q1657 q526 q527 zh2 q528 q131 zn94 rfl (Nat.le_of_ble_eq_true rfl) (st := []) rfl (zcs8 (Nat.le_of_ble_eq_true rfl)) rfl (zkI (fun v20 s21 hw => ?_)) (zout hX hR hTb)
  exact z_ireturn hX hR dX1_item_26 rfl hw
abbrev cX1_requireItem : ByteArray := prog_1_method_15_code
def yX1_requireItem : MethodName := ⟨RX1, "requireItem", "(I)V"⟩
def dkwX1_requireItem_0 : List UInt8 := [27, 133, 9, 42, 180, 0, 46, 180, 0, 123, 182, 0, 126, 4, 100, 133, 184, 0, 84, 184, 0, 133, 177]
abbrev dktX1_requireItem_0 : List UInt8 := dkwX1_requireItem_0 ++ []
theorem dksX1_requireItem_0 : cX1_requireItem.data.toList.drop 0 = dktX1_requireItem_0 := by decide +kernel
theorem dX1_requireItem_0 : decode cX1_requireItem 0 = .ok (.iload_n 1, 1) := dk_27 (dk_at dksX1_requireItem_0 0 rfl rfl)
theorem dX1_requireItem_1 : decode cX1_requireItem 1 = .ok (.i2l, 1) := dk_133 (dk_at dksX1_requireItem_0 1 rfl rfl)
theorem dX1_requireItem_2 : decode cX1_requireItem 2 = .ok (.lconst 0, 1) := dk_9 (dk_at dksX1_requireItem_0 2 rfl rfl)
theorem dX1_requireItem_3 : decode cX1_requireItem 3 = .ok (.aload_n 0, 1) := dk_42 (dk_at dksX1_requireItem_0 3 rfl rfl)
theorem dX1_requireItem_4 : decode cX1_requireItem 4 = .ok (.getfield 46, 3) := dk_180 0 46 (dk_at dksX1_requireItem_0 4 rfl rfl)
theorem dX1_requireItem_7 : decode cX1_requireItem 7 = .ok (.getfield 123, 3) := dk_180 0 123 (dk_at dksX1_requireItem_0 7 rfl rfl)
theorem dX1_requireItem_10 : decode cX1_requireItem 10 = .ok (.invokevirtual 126, 3) := dk_182 0 126 (dk_at dksX1_requireItem_0 10 rfl rfl)
theorem dX1_requireItem_13 : decode cX1_requireItem 13 = .ok (.iconst 1, 1) := dk_4 (dk_at dksX1_requireItem_0 13 rfl rfl)
theorem dX1_requireItem_14 : decode cX1_requireItem 14 = .ok (.isub, 1) := dk_100 (dk_at dksX1_requireItem_0 14 rfl rfl)
theorem dX1_requireItem_15 : decode cX1_requireItem 15 = .ok (.i2l, 1) := dk_133 (dk_at dksX1_requireItem_0 15 rfl rfl)
theorem dX1_requireItem_16 : decode cX1_requireItem 16 = .ok (.invokestatic 84, 3) := dk_184 0 84 (dk_at dksX1_requireItem_0 16 rfl rfl)
theorem dX1_requireItem_19 : decode cX1_requireItem 19 = .ok (.invokestatic 133, 3) := dk_184 0 133 (dk_at dksX1_requireItem_0 19 rfl rfl)
theorem dX1_requireItem_22 : decode cX1_requireItem 22 = .ok (.return_, 1) := dk_177 (dk_at dksX1_requireItem_0 22 rfl rfl)
/-- PackingDuel.requireItem(I)V -/
def zb56 (G : zPg) (C : zO) (args : List Value) (Q : zQ) (Y : zY) (σ : zS) : Prop := ∃ (a0 : Nat) (x1 : Int32), args = [.ref a0, .int x1] ∧ (zgR σ (some a0) 0 0 (fun v1 => zgR σ v1 1 0 (fun v7 => zrc σ v7 2 (fun a16 => zcl C 128 [.ref a16] Y σ (zqI (fun v13 s14 => zcl C 48 [.long x1.toInt64, .long (0 : Int64), .long ((v13 - (1 : Int32)).toInt64)] Y s14 (zqI (fun v20 s21 => zcl C 54 [.int v20] Y s21 (zqV (fun s24 => Q none s24))))))))))
set_option maxHeartbeats 4000000 in
theorem wk56 {l : Launch} {g : zG} {d : Nat} {C : zO} (hG : zGk g) (hC : zSound l g d C) {args : List Value} {Q : zQ} {Y : zY} {σ : zS} (hw : zb56 (zpg g) C args Q Y σ) : zMet l g (d + 1) (⟨"PackingDuel", "requireItem", "(I)V"⟩, Cond.code ⟨"PackingDuel", "requireItem", "(I)V"⟩ prog_1_method_15_code 2 (Option.none : Option FieldType)) args σ Q Y := by
  obtain ⟨a0, x1, rfl, hw⟩ := hw
  refine zof hG (by decide +kernel) [false, false] ⟨rfl, rfl, trivial⟩ (Nat.le_of_ble_eq_true rfl) (ls := [some (va_rf (some a0)), some (.int x1)]) rfl ?_
  intro X hX hR hTb hd1 hd2 hl hg hnm
  subst hl
  subst hg
  have hd : zDep X d := ⟨hd1, hd2⟩
  refine z_iload_n hX dX1_requireItem_0 rfl (i := 1) rfl ?_
  refine z_i2l hX dX1_requireItem_1 ?_
  refine z_lconst hX (v := (0 : Int64)) dX1_requireItem_2 (by decide) ?_
  refine z_aload_n hX dX1_requireItem_3 rfl (i := 0) rfl ?_
  obtain ⟨a2, f3, v1, r4, m5, e6, hw⟩ := hw
  refine z_get hX zc0 (k := 0) dX1_requireItem_4 (Nat.le_of_ble_eq_true rfl) (zlk hX q307) r4 m5 e6 ?_
  obtain ⟨a8, f9, v7, r10, m11, e12, hw⟩ := hw
  refine z_get hX zc1 (k := 0) dX1_requireItem_7 (Nat.le_of_ble_eq_true rfl) (zlkN hX "PackingDuel" q228) r10 m11 e12 ?_
  obtain ⟨a16, f17, r18, m19, hw⟩ := hw
  refine z_invV hX hd r18 (ci := 2) rfl rfl m19 dX1_requireItem_10 (hC 128 _ zm128 _ _ _ _ hw) q1630 q362 q363 zh5 q364 q134 zn128 rfl (Nat.le_of_ble_eq_true rfl) (st := [.long (0 : Int64), .long x1.toInt64]) rfl (zcs8 (Nat.le_of_ble_eq_true rfl)) rfl (zkI (fun v13 s14 hw => ?_)) (zout hX hR hTb)
  refine z_iconst hX (v := (1 : Int32)) dX1_requireItem_13 (by decide) ?_
  refine z_isub hX dX1_requireItem_14 ?_
  refine z_i2l hX dX1_requireItem_15 ?_
  refine z_invS hX hd dX1_requireItem_16 (hC 48 _ zm48 _ _ _ _ hw) q1014 q1015 zh1 q1016 q130 zn48 rfl (Nat.le_of_ble_eq_true rfl) (st := []) rfl (zcs8 (Nat.le_of_ble_eq_true rfl)) rfl (zkI (fun v20 s21 hw => ?_)) (zout hX hR hTb)
  refine z_invS hX hd dX1_requireItem_19 (hC 54 _ zm54 _ _ _ _ hw) q1640 q1641 zh1 q1642 q130 zn54 rfl (Nat.le_of_ble_eq_true rfl) (st := []) rfl (zcs8 (Nat.le_of_ble_eq_true rfl)) rfl (zkV (fun s24 hw => ?_)) (zout hX hR hTb)
  exact z_return hX hR dX1_requireItem_22 hw
abbrev cX1_sumOf : ByteArray := prog_1_method_18_code
def yX1_sumOf : MethodName := ⟨RX1, "sumOf", "(II)I"⟩
def dkwX1_sumOf_1 : List UInt8 := [180, 0, 46, 182, 0, 174, 180, 0, 178, 28, 50, 27, 46, 172]
abbrev dktX1_sumOf_1 : List UInt8 := dkwX1_sumOf_1 ++ []
def dkwX1_sumOf_0 : List UInt8 := [28, 133, 9, 20, 0, 169, 184, 0, 84, 184, 0, 133, 42, 180, 0, 46, 27, 182, 0, 159, 184, 0, 88, 42]
abbrev dktX1_sumOf_0 : List UInt8 := dkwX1_sumOf_0 ++ dktX1_sumOf_1
theorem dksX1_sumOf_0 : cX1_sumOf.data.toList.drop 0 = dktX1_sumOf_0 := by decide +kernel
theorem dksX1_sumOf_1 : cX1_sumOf.data.toList.drop 24 = dktX1_sumOf_1 := dk_seg dksX1_sumOf_0 24 rfl rfl
theorem dX1_sumOf_0 : decode cX1_sumOf 0 = .ok (.iload_n 2, 1) := dk_28 (dk_at dksX1_sumOf_0 0 rfl rfl)
theorem dX1_sumOf_1 : decode cX1_sumOf 1 = .ok (.i2l, 1) := dk_133 (dk_at dksX1_sumOf_0 1 rfl rfl)
theorem dX1_sumOf_2 : decode cX1_sumOf 2 = .ok (.lconst 0, 1) := dk_9 (dk_at dksX1_sumOf_0 2 rfl rfl)
theorem dX1_sumOf_3 : decode cX1_sumOf 3 = .ok (.ldc2_w 169, 3) := dk_20 0 169 (dk_at dksX1_sumOf_0 3 rfl rfl)
theorem dX1_sumOf_6 : decode cX1_sumOf 6 = .ok (.invokestatic 84, 3) := dk_184 0 84 (dk_at dksX1_sumOf_0 6 rfl rfl)
theorem dX1_sumOf_9 : decode cX1_sumOf 9 = .ok (.invokestatic 133, 3) := dk_184 0 133 (dk_at dksX1_sumOf_0 9 rfl rfl)
theorem dX1_sumOf_12 : decode cX1_sumOf 12 = .ok (.aload_n 0, 1) := dk_42 (dk_at dksX1_sumOf_0 12 rfl rfl)
theorem dX1_sumOf_13 : decode cX1_sumOf 13 = .ok (.getfield 46, 3) := dk_180 0 46 (dk_at dksX1_sumOf_0 13 rfl rfl)
theorem dX1_sumOf_16 : decode cX1_sumOf 16 = .ok (.iload_n 1, 1) := dk_27 (dk_at dksX1_sumOf_0 16 rfl rfl)
theorem dX1_sumOf_17 : decode cX1_sumOf 17 = .ok (.invokevirtual 159, 3) := dk_182 0 159 (dk_at dksX1_sumOf_0 17 rfl rfl)
theorem dX1_sumOf_20 : decode cX1_sumOf 20 = .ok (.invokestatic 88, 3) := dk_184 0 88 (dk_at dksX1_sumOf_0 20 rfl rfl)
theorem dX1_sumOf_23 : decode cX1_sumOf 23 = .ok (.aload_n 0, 1) := dk_42 (dk_at dksX1_sumOf_0 23 rfl rfl)
theorem dX1_sumOf_24 : decode cX1_sumOf 24 = .ok (.getfield 46, 3) := dk_180 0 46 (dk_at dksX1_sumOf_1 0 rfl rfl)
theorem dX1_sumOf_27 : decode cX1_sumOf 27 = .ok (.invokevirtual 174, 3) := dk_182 0 174 (dk_at dksX1_sumOf_1 3 rfl rfl)
theorem dX1_sumOf_30 : decode cX1_sumOf 30 = .ok (.getfield 178, 3) := dk_180 0 178 (dk_at dksX1_sumOf_1 6 rfl rfl)
theorem dX1_sumOf_33 : decode cX1_sumOf 33 = .ok (.iload_n 2, 1) := dk_28 (dk_at dksX1_sumOf_1 9 rfl rfl)
theorem dX1_sumOf_34 : decode cX1_sumOf 34 = .ok (.aaload, 1) := dk_50 (dk_at dksX1_sumOf_1 10 rfl rfl)
theorem dX1_sumOf_35 : decode cX1_sumOf 35 = .ok (.iload_n 1, 1) := dk_27 (dk_at dksX1_sumOf_1 11 rfl rfl)
theorem dX1_sumOf_36 : decode cX1_sumOf 36 = .ok (.iaload, 1) := dk_46 (dk_at dksX1_sumOf_1 12 rfl rfl)
theorem dX1_sumOf_37 : decode cX1_sumOf 37 = .ok (.ireturn, 1) := dk_172 (dk_at dksX1_sumOf_1 13 rfl rfl)
/-- PackingDuel.sumOf(II)I -/
def zb57 (G : zPg) (C : zO) (args : List Value) (Q : zQ) (Y : zY) (σ : zS) : Prop := ∃ (a0 : Nat) (x1 : Int32) (x2 : Int32), args = [.ref a0, .int x1, .int x2] ∧ (zcl C 48 [.long x2.toInt64, .long (0 : Int64), .long (3 : Int64)] Y σ (zqI (fun v1 s2 => zcl C 54 [.int v1] Y s2 (zqV (fun s5 => zgR s5 (some a0) 0 0 (fun v7 => zrc s5 v7 1 (fun a16 => zcl C 109 [.ref a16, .int x1] Y s5 (zqI (fun v13 s14 => zcl C 51 [.int v13] Y s14 (zqV (fun s21 => zgR s21 (some a0) 0 0 (fun v23 => zrc s21 v23 1 (fun a32 => zcl C 83 [.ref a32] Y s21 (zqR (fun v29 s30 => zgR s30 v29 14 0 (fun v36 => zaR s30 5 v36 x2 (fun v48 => zaI s30 0 v48 x1 (fun v56 => Q (some (.int v56)) s30))))))))))))))))))
set_option maxHeartbeats 4000000 in
theorem wk57 {l : Launch} {g : zG} {d : Nat} {C : zO} (hG : zGk g) (hC : zSound l g d C) {args : List Value} {Q : zQ} {Y : zY} {σ : zS} (hw : zb57 (zpg g) C args Q Y σ) : zMet l g (d + 1) (⟨"PackingDuel", "sumOf", "(II)I"⟩, Cond.code ⟨"PackingDuel", "sumOf", "(II)I"⟩ prog_1_method_18_code 3 (Option.some FieldType.int)) args σ Q Y := by
  obtain ⟨a0, x1, x2, rfl, hw⟩ := hw
  refine zof hG (by decide +kernel) [false, false, false] ⟨rfl, rfl, rfl, trivial⟩ (Nat.le_of_ble_eq_true rfl) (ls := [some (va_rf (some a0)), some (.int x1), some (.int x2)]) rfl ?_
  intro X hX hR hTb hd1 hd2 hl hg hnm
  subst hl
  subst hg
  have hd : zDep X d := ⟨hd1, hd2⟩
  refine z_iload_n hX dX1_sumOf_0 rfl (i := 2) rfl ?_
  refine z_i2l hX dX1_sumOf_1 ?_
  refine z_lconst hX (v := (0 : Int64)) dX1_sumOf_2 (by decide) ?_
  refine z_ldc2 hX dX1_sumOf_3 q1656 ?_
  refine z_invS hX hd dX1_sumOf_6 (hC 48 _ zm48 _ _ _ _ hw) q1014 q1015 zh1 q1016 q130 zn48 rfl (Nat.le_of_ble_eq_true rfl) (st := []) rfl (zcs8 (Nat.le_of_ble_eq_true rfl)) rfl (zkI (fun v1 s2 hw => ?_)) (zout hX hR hTb)
  refine z_invS hX hd dX1_sumOf_9 (hC 54 _ zm54 _ _ _ _ hw) q1640 q1641 zh1 q1642 q130 zn54 rfl (Nat.le_of_ble_eq_true rfl) (st := []) rfl (zcs8 (Nat.le_of_ble_eq_true rfl)) rfl (zkV (fun s5 hw => ?_)) (zout hX hR hTb)
  refine z_aload_n hX dX1_sumOf_12 rfl (i := 0) rfl ?_
  obtain ⟨a8, f9, v7, r10, m11, e12, hw⟩ := hw
  refine z_get hX zc0 (k := 0) dX1_sumOf_13 (Nat.le_of_ble_eq_true rfl) (zlk hX q307) r10 m11 e12 ?_
  refine z_iload_n hX dX1_sumOf_16 rfl (i := 1) rfl ?_
  obtain ⟨a16, f17, r18, m19, hw⟩ := hw
  refine z_invV hX hd r18 (ci := 1) rfl rfl m19 dX1_sumOf_17 (hC 109 _ zm109 _ _ _ _ hw) q1665 q1666 q1667 zh2 q1668 q131 zn109 rfl (Nat.le_of_ble_eq_true rfl) (st := []) rfl (zcs8 (Nat.le_of_ble_eq_true rfl)) rfl (zkI (fun v13 s14 hw => ?_)) (zout hX hR hTb)
  refine z_invS hX hd dX1_sumOf_20 (hC 51 _ zm51 _ _ _ _ hw) q1067 q1068 zh1 q1069 q130 zn51 rfl (Nat.le_of_ble_eq_true rfl) (st := []) rfl (zcs8 (Nat.le_of_ble_eq_true rfl)) rfl (zkV (fun s21 hw => ?_)) (zout hX hR hTb)
  refine z_aload_n hX dX1_sumOf_23 rfl (i := 0) rfl ?_
  obtain ⟨a24, f25, v23, r26, m27, e28, hw⟩ := hw
  refine z_get hX zc0 (k := 0) dX1_sumOf_24 (Nat.le_of_ble_eq_true rfl) (zlk hX q307) r26 m27 e28 ?_
  obtain ⟨a32, f33, r34, m35, hw⟩ := hw
  refine z_invV hX hd r34 (ci := 1) rfl rfl m35 dX1_sumOf_27 (hC 83 _ zm83 _ _ _ _ hw) q734 q352 q353 zh2 q354 q131 zn83 rfl (Nat.le_of_ble_eq_true rfl) (st := []) rfl (zcs8 (Nat.le_of_ble_eq_true rfl)) rfl (zkR (fun v29 s30 hw => ?_)) (zout hX hR hTb)
  obtain ⟨a37, f38, v36, r39, m40, e41, hw⟩ := hw
  refine z_get hX zc14 (k := 0) dX1_sumOf_30 (Nat.le_of_ble_eq_true rfl) (zlkN hX "PackingDuel" q390) r39 m40 e41 ?_
  refine z_iload_n hX dX1_sumOf_33 rfl (i := 2) rfl ?_
  obtain ⟨a42, n43, f44, r45, m46, i47, hw⟩ := hw
  refine z_aald hX 5 dX1_sumOf_34 rfl r45 m46 i47 ?_
  revert hw
  generalize f44 (Int32.toNatClampNeg x2) = v48
  intro hw
  refine z_iload_n hX dX1_sumOf_35 rfl (i := 1) rfl ?_
  obtain ⟨a50, n51, f52, r53, m54, i55, hw⟩ := hw
  refine z_iald hX dX1_sumOf_36 r53 m54 i55 ?_
  revert hw
  generalize f52 (Int32.toNatClampNeg x1) = v56
  intro hw
  exact z_ireturn hX hR dX1_sumOf_37 rfl hw
abbrev cX1_reply : ByteArray := prog_1_method_19_code
def yX1_reply : MethodName := ⟨RX1, "reply", "(I)I"⟩
def dkwX1_reply_0 : List UInt8 := [42, 27, 182, 0, 184, 42, 180, 0, 46, 27, 182, 0, 187, 172]
abbrev dktX1_reply_0 : List UInt8 := dkwX1_reply_0 ++ []
theorem dksX1_reply_0 : cX1_reply.data.toList.drop 0 = dktX1_reply_0 := by decide +kernel
theorem dX1_reply_0 : decode cX1_reply 0 = .ok (.aload_n 0, 1) := dk_42 (dk_at dksX1_reply_0 0 rfl rfl)
theorem dX1_reply_1 : decode cX1_reply 1 = .ok (.iload_n 1, 1) := dk_27 (dk_at dksX1_reply_0 1 rfl rfl)
theorem dX1_reply_2 : decode cX1_reply 2 = .ok (.invokevirtual 184, 3) := dk_182 0 184 (dk_at dksX1_reply_0 2 rfl rfl)
theorem dX1_reply_5 : decode cX1_reply 5 = .ok (.aload_n 0, 1) := dk_42 (dk_at dksX1_reply_0 5 rfl rfl)
theorem dX1_reply_6 : decode cX1_reply 6 = .ok (.getfield 46, 3) := dk_180 0 46 (dk_at dksX1_reply_0 6 rfl rfl)
theorem dX1_reply_9 : decode cX1_reply 9 = .ok (.iload_n 1, 1) := dk_27 (dk_at dksX1_reply_0 9 rfl rfl)
theorem dX1_reply_10 : decode cX1_reply 10 = .ok (.invokevirtual 187, 3) := dk_182 0 187 (dk_at dksX1_reply_0 10 rfl rfl)
theorem dX1_reply_13 : decode cX1_reply 13 = .ok (.ireturn, 1) := dk_172 (dk_at dksX1_reply_0 13 rfl rfl)
/-- PackingDuel.reply(I)I -/
def zb58 (G : zPg) (C : zO) (args : List Value) (Q : zQ) (Y : zY) (σ : zS) : Prop := ∃ (a0 : Nat) (x1 : Int32), args = [.ref a0, .int x1] ∧ (zrc σ (some a0) 0 (fun a4 => zcl C 59 [.ref a4, .int x1] Y σ (zqV (fun s2 => zgR s2 (some a0) 0 0 (fun v8 => zrc s2 v8 1 (fun a17 => zcl C 104 [.ref a17, .int x1] Y s2 (zqI (fun v14 s15 => Q (some (.int v14)) s15))))))))
set_option maxHeartbeats 4000000 in
theorem wk58 {l : Launch} {g : zG} {d : Nat} {C : zO} (hG : zGk g) (hC : zSound l g d C) {args : List Value} {Q : zQ} {Y : zY} {σ : zS} (hw : zb58 (zpg g) C args Q Y σ) : zMet l g (d + 1) (⟨"PackingDuel", "reply", "(I)I"⟩, Cond.code ⟨"PackingDuel", "reply", "(I)I"⟩ prog_1_method_19_code 2 (Option.some FieldType.int)) args σ Q Y := by
  obtain ⟨a0, x1, rfl, hw⟩ := hw
  refine zof hG (by decide +kernel) [false, false] ⟨rfl, rfl, trivial⟩ (Nat.le_of_ble_eq_true rfl) (ls := [some (va_rf (some a0)), some (.int x1)]) rfl ?_
  intro X hX hR hTb hd1 hd2 hl hg hnm
  subst hl
  subst hg
  have hd : zDep X d := ⟨hd1, hd2⟩
  refine z_aload_n hX dX1_reply_0 rfl (i := 0) rfl ?_
  refine z_iload_n hX dX1_reply_1 rfl (i := 1) rfl ?_
  obtain ⟨a4, f5, r6, m7, hw⟩ := hw
  refine z_invV hX hd r6 (ci := 0) rfl rfl m7 dX1_reply_2 (hC 59 _ zm59 _ _ _ _ hw) q1677 q1679 qs26 zh1 q1680 q130 zn59 rfl (Nat.le_of_ble_eq_true rfl) (st := []) rfl (zcs8 (Nat.le_of_ble_eq_true rfl)) rfl (zkV (fun s2 hw => ?_)) (zout hX hR hTb)
  refine z_aload_n hX dX1_reply_5 rfl (i := 0) rfl ?_
  obtain ⟨a9, f10, v8, r11, m12, e13, hw⟩ := hw
  refine z_get hX zc0 (k := 0) dX1_reply_6 (Nat.le_of_ble_eq_true rfl) (zlk hX q307) r11 m12 e13 ?_
  refine z_iload_n hX dX1_reply_9 rfl (i := 1) rfl ?_
  obtain ⟨a17, f18, r19, m20, hw⟩ := hw
  refine z_invV hX hd r19 (ci := 1) rfl rfl m20 dX1_reply_10 (hC 104 _ zm104 _ _ _ _ hw) q749 q750 q751 zh2 q752 q131 zn104 rfl (Nat.le_of_ble_eq_true rfl) (st := []) rfl (zcs8 (Nat.le_of_ble_eq_true rfl)) rfl (zkI (fun v14 s15 hw => ?_)) (zout hX hR hTb)
  exact z_ireturn hX hR dX1_reply_13 rfl hw
abbrev cX1_requirePlan : ByteArray := prog_1_method_16_code
def yX1_requirePlan : MethodName := ⟨RX1, "requirePlan", "(I)V"⟩
def dkwX1_requirePlan_1 : List UInt8 := [167, 0, 4, 3, 184, 0, 88, 177]
abbrev dktX1_requirePlan_1 : List UInt8 := dkwX1_requirePlan_1 ++ []
def dkwX1_requirePlan_0 : List UInt8 := [42, 180, 0, 46, 27, 182, 0, 159, 153, 0, 18, 42, 180, 0, 46, 27, 182, 0, 163, 153, 0, 7, 4]
abbrev dktX1_requirePlan_0 : List UInt8 := dkwX1_requirePlan_0 ++ dktX1_requirePlan_1
theorem dksX1_requirePlan_0 : cX1_requirePlan.data.toList.drop 0 = dktX1_requirePlan_0 := by decide +kernel
theorem dksX1_requirePlan_1 : cX1_requirePlan.data.toList.drop 23 = dktX1_requirePlan_1 := dk_seg dksX1_requirePlan_0 23 rfl rfl
theorem dX1_requirePlan_0 : decode cX1_requirePlan 0 = .ok (.aload_n 0, 1) := dk_42 (dk_at dksX1_requirePlan_0 0 rfl rfl)
theorem dX1_requirePlan_1 : decode cX1_requirePlan 1 = .ok (.getfield 46, 3) := dk_180 0 46 (dk_at dksX1_requirePlan_0 1 rfl rfl)
theorem dX1_requirePlan_4 : decode cX1_requirePlan 4 = .ok (.iload_n 1, 1) := dk_27 (dk_at dksX1_requirePlan_0 4 rfl rfl)
theorem dX1_requirePlan_5 : decode cX1_requirePlan 5 = .ok (.invokevirtual 159, 3) := dk_182 0 159 (dk_at dksX1_requirePlan_0 5 rfl rfl)
theorem dX1_requirePlan_8 : decode cX1_requirePlan 8 = .ok (.ifCond .eq 18, 3) := dk_153 0 18 (dk_at dksX1_requirePlan_0 8 rfl rfl)
theorem dX1_requirePlan_11 : decode cX1_requirePlan 11 = .ok (.aload_n 0, 1) := dk_42 (dk_at dksX1_requirePlan_0 11 rfl rfl)
theorem dX1_requirePlan_12 : decode cX1_requirePlan 12 = .ok (.getfield 46, 3) := dk_180 0 46 (dk_at dksX1_requirePlan_0 12 rfl rfl)
theorem dX1_requirePlan_15 : decode cX1_requirePlan 15 = .ok (.iload_n 1, 1) := dk_27 (dk_at dksX1_requirePlan_0 15 rfl rfl)
theorem dX1_requirePlan_16 : decode cX1_requirePlan 16 = .ok (.invokevirtual 163, 3) := dk_182 0 163 (dk_at dksX1_requirePlan_0 16 rfl rfl)
theorem dX1_requirePlan_19 : decode cX1_requirePlan 19 = .ok (.ifCond .eq 7, 3) := dk_153 0 7 (dk_at dksX1_requirePlan_0 19 rfl rfl)
theorem dX1_requirePlan_22 : decode cX1_requirePlan 22 = .ok (.iconst 1, 1) := dk_4 (dk_at dksX1_requirePlan_0 22 rfl rfl)
theorem dX1_requirePlan_23 : decode cX1_requirePlan 23 = .ok (.goto 4, 3) := dk_167 0 4 (dk_at dksX1_requirePlan_1 0 rfl rfl)
theorem dX1_requirePlan_26 : decode cX1_requirePlan 26 = .ok (.iconst 0, 1) := dk_3 (dk_at dksX1_requirePlan_1 3 rfl rfl)
theorem dX1_requirePlan_27 : decode cX1_requirePlan 27 = .ok (.invokestatic 88, 3) := dk_184 0 88 (dk_at dksX1_requirePlan_1 4 rfl rfl)
theorem dX1_requirePlan_30 : decode cX1_requirePlan 30 = .ok (.return_, 1) := dk_177 (dk_at dksX1_requirePlan_1 7 rfl rfl)
/-- PackingDuel.requirePlan(I)V -/
def zb59 (G : zPg) (C : zO) (args : List Value) (Q : zQ) (Y : zY) (σ : zS) : Prop := ∃ (a0 : Nat) (x1 : Int32), args = [.ref a0, .int x1] ∧ (zgR σ (some a0) 0 0 (fun v1 => zrc σ v1 1 (fun a10 => zcl C 109 [.ref a10, .int x1] Y σ (zqI (fun v7 s8 => zJ (fun (p14 : Int32) (s15 : zS) => zcl C 51 [.int p14] Y s15 (zqV (fun s18 => Q none s18))) (fun (j16 : Int32 → zS → Prop) => zJ (fun  (s20 : zS) => j16 (0 : Int32) s20) (fun (j21 : zS → Prop) => ((v7 = 0) → j21 s8) ∧ ((¬ v7 = 0) → zgR s8 (some a0) 0 0 (fun v23 => zrc s8 v23 1 (fun a32 => zcl C 84 [.ref a32, .int x1] Y s8 (zqI (fun v29 s30 => ((v29 = 0) → j21 s30) ∧ ((¬ v29 = 0) → j16 (1 : Int32) s30)))))))))))))
set_option maxHeartbeats 4000000 in
theorem wk59 {l : Launch} {g : zG} {d : Nat} {C : zO} (hG : zGk g) (hC : zSound l g d C) {args : List Value} {Q : zQ} {Y : zY} {σ : zS} (hw : zb59 (zpg g) C args Q Y σ) : zMet l g (d + 1) (⟨"PackingDuel", "requirePlan", "(I)V"⟩, Cond.code ⟨"PackingDuel", "requirePlan", "(I)V"⟩ prog_1_method_16_code 2 (Option.none : Option FieldType)) args σ Q Y := by
  obtain ⟨a0, x1, rfl, hw⟩ := hw
  refine zof hG (by decide +kernel) [false, false] ⟨rfl, rfl, trivial⟩ (Nat.le_of_ble_eq_true rfl) (ls := [some (va_rf (some a0)), some (.int x1)]) rfl ?_
  intro X hX hR hTb hd1 hd2 hl hg hnm
  subst hl
  subst hg
  have hd : zDep X d := ⟨hd1, hd2⟩
  refine z_aload_n hX dX1_requirePlan_0 rfl (i := 0) rfl ?_
  obtain ⟨a2, f3, v1, r4, m5, e6, hw⟩ := hw
  refine z_get hX zc0 (k := 0) dX1_requirePlan_1 (Nat.le_of_ble_eq_true rfl) (zlk hX q307) r4 m5 e6 ?_
  refine z_iload_n hX dX1_requirePlan_4 rfl (i := 1) rfl ?_
  obtain ⟨a10, f11, r12, m13, hw⟩ := hw
  refine z_invV hX hd r12 (ci := 1) rfl rfl m13 dX1_requirePlan_5 (hC 109 _ zm109 _ _ _ _ hw) q1665 q1666 q1667 zh2 q1668 q131 zn109 rfl (Nat.le_of_ble_eq_true rfl) (st := []) rfl (zcs8 (Nat.le_of_ble_eq_true rfl)) rfl (zkI (fun v7 s8 hw => ?_)) (zout hX hR hTb)
  refine zJ_w (P := fun (j : Int32 → zS → Prop) => ∀ (p14 : Int32) (s15 : zS), j p14 s15 → zW X s15 27 [none, none] [.int p14]) hw (fun p14 s15 hw => ?_) (fun j16 hj16 hw => ?_)
  · refine z_invS hX hd dX1_requirePlan_27 (hC 51 _ zm51 _ _ _ _ hw) q1067 q1068 zh1 q1069 q130 zn51 rfl (Nat.le_of_ble_eq_true rfl) (st := []) rfl (zcs8 (Nat.le_of_ble_eq_true rfl)) rfl (zkV (fun s18 hw => ?_)) (zout hX hR hTb)
    exact z_return hX hR dX1_requirePlan_30 hw
  · refine zJ_w (P := fun (j : zS → Prop) => ∀  (s20 : zS), j  s20 → zW X s20 26 [none, none] []) hw (fun  s20 hw => ?_) (fun j21 hj21 hw => ?_)
    · refine z_iconst hX (v := (0 : Int32)) dX1_requirePlan_26 (by decide) ?_
      exact hj16 _ _ hw
    · refine z_if_eq hX dX1_requirePlan_8 (tgt := 26) rfl (fun c22 => ?_) (fun c22 => ?_)
      · have hw := hw.1 c22
        refine z_sub (ls' := [none, none]) (zsN (zsN (zs0))) ?_
        exact hj21  _ hw
      · have hw := hw.2 c22
        refine z_aload_n hX dX1_requirePlan_11 rfl (i := 0) rfl ?_
        obtain ⟨a24, f25, v23, r26, m27, e28, hw⟩ := hw
        refine z_get hX zc0 (k := 0) dX1_requirePlan_12 (Nat.le_of_ble_eq_true rfl) (zlk hX q307) r26 m27 e28 ?_
        refine z_iload_n hX dX1_requirePlan_15 rfl (i := 1) rfl ?_
        obtain ⟨a32, f33, r34, m35, hw⟩ := hw
        refine z_invV hX hd r34 (ci := 1) rfl rfl m35 dX1_requirePlan_16 (hC 84 _ zm84 _ _ _ _ hw) q736 q400 q401 zh2 q402 q131 zn84 rfl (Nat.le_of_ble_eq_true rfl) (st := []) rfl (zcs8 (Nat.le_of_ble_eq_true rfl)) rfl (zkI (fun v29 s30 hw => ?_)) (zout hX hR hTb)
        refine z_if_eq hX dX1_requirePlan_19 (tgt := 26) rfl (fun c36 => ?_) (fun c36 => ?_)
        · have hw := hw.1 c36
          refine z_sub (ls' := [none, none]) (zsN (zsN (zs0))) ?_
          exact hj21  _ hw
        · have hw := hw.2 c36
          refine z_iconst hX (v := (1 : Int32)) dX1_requirePlan_22 (by decide) ?_
          refine z_goto hX dX1_requirePlan_23 (tgt := 27) rfl ?_
          refine z_sub (ls' := [none, none]) (zsN (zsN (zs0))) ?_
          exact hj16 _ _ hw
abbrev cX1_result : ByteArray := prog_1_method_20_code
def yX1_result : MethodName := ⟨RX1, "result", "(I)I"⟩
def dkwX1_result_0 : List UInt8 := [42, 27, 182, 0, 184, 42, 180, 0, 46, 27, 182, 0, 191, 172]
abbrev dktX1_result_0 : List UInt8 := dkwX1_result_0 ++ []
theorem dksX1_result_0 : cX1_result.data.toList.drop 0 = dktX1_result_0 := by decide +kernel
theorem dX1_result_0 : decode cX1_result 0 = .ok (.aload_n 0, 1) := dk_42 (dk_at dksX1_result_0 0 rfl rfl)
theorem dX1_result_1 : decode cX1_result 1 = .ok (.iload_n 1, 1) := dk_27 (dk_at dksX1_result_0 1 rfl rfl)
theorem dX1_result_2 : decode cX1_result 2 = .ok (.invokevirtual 184, 3) := dk_182 0 184 (dk_at dksX1_result_0 2 rfl rfl)
theorem dX1_result_5 : decode cX1_result 5 = .ok (.aload_n 0, 1) := dk_42 (dk_at dksX1_result_0 5 rfl rfl)
theorem dX1_result_6 : decode cX1_result 6 = .ok (.getfield 46, 3) := dk_180 0 46 (dk_at dksX1_result_0 6 rfl rfl)
theorem dX1_result_9 : decode cX1_result 9 = .ok (.iload_n 1, 1) := dk_27 (dk_at dksX1_result_0 9 rfl rfl)
theorem dX1_result_10 : decode cX1_result 10 = .ok (.invokevirtual 191, 3) := dk_182 0 191 (dk_at dksX1_result_0 10 rfl rfl)
theorem dX1_result_13 : decode cX1_result 13 = .ok (.ireturn, 1) := dk_172 (dk_at dksX1_result_0 13 rfl rfl)
/-- PackingDuel.result(I)I -/
def zb60 (G : zPg) (C : zO) (args : List Value) (Q : zQ) (Y : zY) (σ : zS) : Prop := ∃ (a0 : Nat) (x1 : Int32), args = [.ref a0, .int x1] ∧ (zrc σ (some a0) 0 (fun a4 => zcl C 59 [.ref a4, .int x1] Y σ (zqV (fun s2 => zgR s2 (some a0) 0 0 (fun v8 => zrc s2 v8 1 (fun a17 => zcl C 102 [.ref a17, .int x1] Y s2 (zqI (fun v14 s15 => Q (some (.int v14)) s15))))))))
set_option maxHeartbeats 4000000 in
theorem wk60 {l : Launch} {g : zG} {d : Nat} {C : zO} (hG : zGk g) (hC : zSound l g d C) {args : List Value} {Q : zQ} {Y : zY} {σ : zS} (hw : zb60 (zpg g) C args Q Y σ) : zMet l g (d + 1) (⟨"PackingDuel", "result", "(I)I"⟩, Cond.code ⟨"PackingDuel", "result", "(I)I"⟩ prog_1_method_20_code 2 (Option.some FieldType.int)) args σ Q Y := by
  obtain ⟨a0, x1, rfl, hw⟩ := hw
  refine zof hG (by decide +kernel) [false, false] ⟨rfl, rfl, trivial⟩ (Nat.le_of_ble_eq_true rfl) (ls := [some (va_rf (some a0)), some (.int x1)]) rfl ?_
  intro X hX hR hTb hd1 hd2 hl hg hnm
  subst hl
  subst hg
  have hd : zDep X d := ⟨hd1, hd2⟩
  refine z_aload_n hX dX1_result_0 rfl (i := 0) rfl ?_
  refine z_iload_n hX dX1_result_1 rfl (i := 1) rfl ?_
  obtain ⟨a4, f5, r6, m7, hw⟩ := hw
  refine z_invV hX hd r6 (ci := 0) rfl rfl m7 dX1_result_2 (hC 59 _ zm59 _ _ _ _ hw) q1677 q1679 qs26 zh1 q1680 q130 zn59 rfl (Nat.le_of_ble_eq_true rfl) (st := []) rfl (zcs8 (Nat.le_of_ble_eq_true rfl)) rfl (zkV (fun s2 hw => ?_)) (zout hX hR hTb)
  refine z_aload_n hX dX1_result_5 rfl (i := 0) rfl ?_
  obtain ⟨a9, f10, v8, r11, m12, e13, hw⟩ := hw
  refine z_get hX zc0 (k := 0) dX1_result_6 (Nat.le_of_ble_eq_true rfl) (zlk hX q307) r11 m12 e13 ?_
  refine z_iload_n hX dX1_result_9 rfl (i := 1) rfl ?_
  obtain ⟨a17, f18, r19, m20, hw⟩ := hw
  refine z_invV hX hd r19 (ci := 1) rfl rfl m20 dX1_result_10 (hC 102 _ zm102 _ _ _ _ hw) q737 q738 q739 zh2 q740 q131 zn102 rfl (Nat.le_of_ble_eq_true rfl) (st := []) rfl (zcs8 (Nat.le_of_ble_eq_true rfl)) rfl (zkI (fun v14 s15 hw => ?_)) (zout hX hR hTb)
  exact z_ireturn hX hR dX1_result_13 rfl hw
abbrev cX1_ranked : ByteArray := prog_1_method_21_code
def yX1_ranked : MethodName := ⟨RX1, "ranked", "(I)I"⟩
def dkwX1_ranked_1 : List UInt8 := [182, 0, 193, 172]
abbrev dktX1_ranked_1 : List UInt8 := dkwX1_ranked_1 ++ []
def dkwX1_ranked_0 : List UInt8 := [27, 133, 9, 42, 180, 0, 46, 182, 0, 156, 4, 100, 133, 184, 0, 84, 184, 0, 133, 42, 180, 0, 46, 27]
abbrev dktX1_ranked_0 : List UInt8 := dkwX1_ranked_0 ++ dktX1_ranked_1
theorem dksX1_ranked_0 : cX1_ranked.data.toList.drop 0 = dktX1_ranked_0 := by decide +kernel
theorem dksX1_ranked_1 : cX1_ranked.data.toList.drop 24 = dktX1_ranked_1 := dk_seg dksX1_ranked_0 24 rfl rfl
theorem dX1_ranked_0 : decode cX1_ranked 0 = .ok (.iload_n 1, 1) := dk_27 (dk_at dksX1_ranked_0 0 rfl rfl)
theorem dX1_ranked_1 : decode cX1_ranked 1 = .ok (.i2l, 1) := dk_133 (dk_at dksX1_ranked_0 1 rfl rfl)
theorem dX1_ranked_2 : decode cX1_ranked 2 = .ok (.lconst 0, 1) := dk_9 (dk_at dksX1_ranked_0 2 rfl rfl)
theorem dX1_ranked_3 : decode cX1_ranked 3 = .ok (.aload_n 0, 1) := dk_42 (dk_at dksX1_ranked_0 3 rfl rfl)
theorem dX1_ranked_4 : decode cX1_ranked 4 = .ok (.getfield 46, 3) := dk_180 0 46 (dk_at dksX1_ranked_0 4 rfl rfl)
theorem dX1_ranked_7 : decode cX1_ranked 7 = .ok (.invokevirtual 156, 3) := dk_182 0 156 (dk_at dksX1_ranked_0 7 rfl rfl)
theorem dX1_ranked_10 : decode cX1_ranked 10 = .ok (.iconst 1, 1) := dk_4 (dk_at dksX1_ranked_0 10 rfl rfl)
theorem dX1_ranked_11 : decode cX1_ranked 11 = .ok (.isub, 1) := dk_100 (dk_at dksX1_ranked_0 11 rfl rfl)
theorem dX1_ranked_12 : decode cX1_ranked 12 = .ok (.i2l, 1) := dk_133 (dk_at dksX1_ranked_0 12 rfl rfl)
theorem dX1_ranked_13 : decode cX1_ranked 13 = .ok (.invokestatic 84, 3) := dk_184 0 84 (dk_at dksX1_ranked_0 13 rfl rfl)
theorem dX1_ranked_16 : decode cX1_ranked 16 = .ok (.invokestatic 133, 3) := dk_184 0 133 (dk_at dksX1_ranked_0 16 rfl rfl)
theorem dX1_ranked_19 : decode cX1_ranked 19 = .ok (.aload_n 0, 1) := dk_42 (dk_at dksX1_ranked_0 19 rfl rfl)
theorem dX1_ranked_20 : decode cX1_ranked 20 = .ok (.getfield 46, 3) := dk_180 0 46 (dk_at dksX1_ranked_0 20 rfl rfl)
theorem dX1_ranked_23 : decode cX1_ranked 23 = .ok (.iload_n 1, 1) := dk_27 (dk_at dksX1_ranked_0 23 rfl rfl)
theorem dX1_ranked_24 : decode cX1_ranked 24 = .ok (.invokevirtual 193, 3) := dk_182 0 193 (dk_at dksX1_ranked_1 0 rfl rfl)
theorem dX1_ranked_27 : decode cX1_ranked 27 = .ok (.ireturn, 1) := dk_172 (dk_at dksX1_ranked_1 3 rfl rfl)
/-- PackingDuel.ranked(I)I -/
def zb61 (G : zPg) (C : zO) (args : List Value) (Q : zQ) (Y : zY) (σ : zS) : Prop := ∃ (a0 : Nat) (x1 : Int32), args = [.ref a0, .int x1] ∧ (zgR σ (some a0) 0 0 (fun v1 => zrc σ v1 1 (fun a10 => zcl C 103 [.ref a10] Y σ (zqI (fun v7 s8 => zcl C 48 [.long x1.toInt64, .long (0 : Int64), .long ((v7 - (1 : Int32)).toInt64)] Y s8 (zqI (fun v14 s15 => zcl C 54 [.int v14] Y s15 (zqV (fun s18 => zgR s18 (some a0) 0 0 (fun v20 => zrc s18 v20 1 (fun a29 => zcl C 110 [.ref a29, .int x1] Y s18 (zqI (fun v26 s27 => Q (some (.int v26)) s27)))))))))))))
set_option maxHeartbeats 4000000 in
theorem wk61 {l : Launch} {g : zG} {d : Nat} {C : zO} (hG : zGk g) (hC : zSound l g d C) {args : List Value} {Q : zQ} {Y : zY} {σ : zS} (hw : zb61 (zpg g) C args Q Y σ) : zMet l g (d + 1) (⟨"PackingDuel", "ranked", "(I)I"⟩, Cond.code ⟨"PackingDuel", "ranked", "(I)I"⟩ prog_1_method_21_code 2 (Option.some FieldType.int)) args σ Q Y := by
  obtain ⟨a0, x1, rfl, hw⟩ := hw
  refine zof hG (by decide +kernel) [false, false] ⟨rfl, rfl, trivial⟩ (Nat.le_of_ble_eq_true rfl) (ls := [some (va_rf (some a0)), some (.int x1)]) rfl ?_
  intro X hX hR hTb hd1 hd2 hl hg hnm
  subst hl
  subst hg
  have hd : zDep X d := ⟨hd1, hd2⟩
  refine z_iload_n hX dX1_ranked_0 rfl (i := 1) rfl ?_
  refine z_i2l hX dX1_ranked_1 ?_
  refine z_lconst hX (v := (0 : Int64)) dX1_ranked_2 (by decide) ?_
  refine z_aload_n hX dX1_ranked_3 rfl (i := 0) rfl ?_
  obtain ⟨a2, f3, v1, r4, m5, e6, hw⟩ := hw
  refine z_get hX zc0 (k := 0) dX1_ranked_4 (Nat.le_of_ble_eq_true rfl) (zlk hX q307) r4 m5 e6 ?_
  obtain ⟨a10, f11, r12, m13, hw⟩ := hw
  refine z_invV hX hd r12 (ci := 1) rfl rfl m13 dX1_ranked_7 (hC 103 _ zm103 _ _ _ _ hw) q741 q742 q743 zh2 q744 q131 zn103 rfl (Nat.le_of_ble_eq_true rfl) (st := [.long (0 : Int64), .long x1.toInt64]) rfl (zcs8 (Nat.le_of_ble_eq_true rfl)) rfl (zkI (fun v7 s8 hw => ?_)) (zout hX hR hTb)
  refine z_iconst hX (v := (1 : Int32)) dX1_ranked_10 (by decide) ?_
  refine z_isub hX dX1_ranked_11 ?_
  refine z_i2l hX dX1_ranked_12 ?_
  refine z_invS hX hd dX1_ranked_13 (hC 48 _ zm48 _ _ _ _ hw) q1014 q1015 zh1 q1016 q130 zn48 rfl (Nat.le_of_ble_eq_true rfl) (st := []) rfl (zcs8 (Nat.le_of_ble_eq_true rfl)) rfl (zkI (fun v14 s15 hw => ?_)) (zout hX hR hTb)
  refine z_invS hX hd dX1_ranked_16 (hC 54 _ zm54 _ _ _ _ hw) q1640 q1641 zh1 q1642 q130 zn54 rfl (Nat.le_of_ble_eq_true rfl) (st := []) rfl (zcs8 (Nat.le_of_ble_eq_true rfl)) rfl (zkV (fun s18 hw => ?_)) (zout hX hR hTb)
  refine z_aload_n hX dX1_ranked_19 rfl (i := 0) rfl ?_
  obtain ⟨a21, f22, v20, r23, m24, e25, hw⟩ := hw
  refine z_get hX zc0 (k := 0) dX1_ranked_20 (Nat.le_of_ble_eq_true rfl) (zlk hX q307) r23 m24 e25 ?_
  refine z_iload_n hX dX1_ranked_23 rfl (i := 1) rfl ?_
  obtain ⟨a29, f30, r31, m32, hw⟩ := hw
  refine z_invV hX hd r31 (ci := 1) rfl rfl m32 dX1_ranked_24 (hC 110 _ zm110 _ _ _ _ hw) q1695 q1696 q1697 zh2 q1698 q131 zn110 rfl (Nat.le_of_ble_eq_true rfl) (st := []) rfl (zcs8 (Nat.le_of_ble_eq_true rfl)) rfl (zkI (fun v26 s27 hw => ?_)) (zout hX hR hTb)
  exact z_ireturn hX hR dX1_ranked_27 rfl hw
abbrev cX1_listed : ByteArray := prog_1_method_26_code
def yX1_listed : MethodName := ⟨RX1, "listed", "(ZI)I"⟩
def dkwX1_listed_1 : List UInt8 := [172]
abbrev dktX1_listed_1 : List UInt8 := dkwX1_listed_1 ++ []
def dkwX1_listed_0 : List UInt8 := [42, 27, 28, 182, 0, 206, 42, 180, 0, 46, 27, 182, 0, 202, 28, 182, 0, 210, 192, 0, 214, 182, 0, 216]
abbrev dktX1_listed_0 : List UInt8 := dkwX1_listed_0 ++ dktX1_listed_1
theorem dksX1_listed_0 : cX1_listed.data.toList.drop 0 = dktX1_listed_0 := by decide +kernel
theorem dksX1_listed_1 : cX1_listed.data.toList.drop 24 = dktX1_listed_1 := dk_seg dksX1_listed_0 24 rfl rfl
theorem dX1_listed_0 : decode cX1_listed 0 = .ok (.aload_n 0, 1) := dk_42 (dk_at dksX1_listed_0 0 rfl rfl)
theorem dX1_listed_1 : decode cX1_listed 1 = .ok (.iload_n 1, 1) := dk_27 (dk_at dksX1_listed_0 1 rfl rfl)
theorem dX1_listed_2 : decode cX1_listed 2 = .ok (.iload_n 2, 1) := dk_28 (dk_at dksX1_listed_0 2 rfl rfl)
theorem dX1_listed_3 : decode cX1_listed 3 = .ok (.invokevirtual 206, 3) := dk_182 0 206 (dk_at dksX1_listed_0 3 rfl rfl)
theorem dX1_listed_6 : decode cX1_listed 6 = .ok (.aload_n 0, 1) := dk_42 (dk_at dksX1_listed_0 6 rfl rfl)
theorem dX1_listed_7 : decode cX1_listed 7 = .ok (.getfield 46, 3) := dk_180 0 46 (dk_at dksX1_listed_0 7 rfl rfl)
theorem dX1_listed_10 : decode cX1_listed 10 = .ok (.iload_n 1, 1) := dk_27 (dk_at dksX1_listed_0 10 rfl rfl)
theorem dX1_listed_11 : decode cX1_listed 11 = .ok (.invokevirtual 202, 3) := dk_182 0 202 (dk_at dksX1_listed_0 11 rfl rfl)
theorem dX1_listed_14 : decode cX1_listed 14 = .ok (.iload_n 2, 1) := dk_28 (dk_at dksX1_listed_0 14 rfl rfl)
theorem dX1_listed_15 : decode cX1_listed 15 = .ok (.invokevirtual 210, 3) := dk_182 0 210 (dk_at dksX1_listed_0 15 rfl rfl)
theorem dX1_listed_18 : decode cX1_listed 18 = .ok (.checkcast 214, 3) := dk_192 0 214 (dk_at dksX1_listed_0 18 rfl rfl)
theorem dX1_listed_21 : decode cX1_listed 21 = .ok (.invokevirtual 216, 3) := dk_182 0 216 (dk_at dksX1_listed_0 21 rfl rfl)
theorem dX1_listed_24 : decode cX1_listed 24 = .ok (.ireturn, 1) := dk_172 (dk_at dksX1_listed_1 0 rfl rfl)
/-- PackingDuel.listed(ZI)I -/
def zb62 (G : zPg) (C : zO) (args : List Value) (Q : zQ) (Y : zY) (σ : zS) : Prop := ∃ (a0 : Nat) (x1 : Int32) (x2 : Int32), args = [.ref a0, .int x1, .int x2] ∧ (zrc σ (some a0) 0 (fun a4 => zcl C 63 [.ref a4, .int x1, .int x2] Y σ (zqV (fun s2 => zgR s2 (some a0) 0 0 (fun v8 => zrc s2 v8 1 (fun a17 => zcl C 108 [.ref a17, .int x1] Y s2 (zqR (fun v14 s15 => zrc s15 v14 2 (fun a24 => zcl C 129 [.ref a24, .int x2] Y s15 (zqR (fun v21 s22 => (zcst s22 v21 [10] ∧ zrc s22 v21 10 (fun a31 => zcl C 432 [.ref a31] Y s22 (zqI (fun v28 s29 => Q (some (.int v28)) s29)))))))))))))))
set_option maxHeartbeats 4000000 in
theorem wk62 {l : Launch} {g : zG} {d : Nat} {C : zO} (hG : zGk g) (hC : zSound l g d C) {args : List Value} {Q : zQ} {Y : zY} {σ : zS} (hw : zb62 (zpg g) C args Q Y σ) : zMet l g (d + 1) (⟨"PackingDuel", "listed", "(ZI)I"⟩, Cond.code ⟨"PackingDuel", "listed", "(ZI)I"⟩ prog_1_method_26_code 3 (Option.some FieldType.int)) args σ Q Y := by
  obtain ⟨a0, x1, x2, rfl, hw⟩ := hw
  refine zof hG (by decide +kernel) [false, false, false] ⟨rfl, rfl, rfl, trivial⟩ (Nat.le_of_ble_eq_true rfl) (ls := [some (va_rf (some a0)), some (.int x1), some (.int x2)]) rfl ?_
  intro X hX hR hTb hd1 hd2 hl hg hnm
  subst hl
  subst hg
  have hd : zDep X d := ⟨hd1, hd2⟩
  refine z_aload_n hX dX1_listed_0 rfl (i := 0) rfl ?_
  refine z_iload_n hX dX1_listed_1 rfl (i := 1) rfl ?_
  refine z_iload_n hX dX1_listed_2 rfl (i := 2) rfl ?_
  obtain ⟨a4, f5, r6, m7, hw⟩ := hw
  refine z_invV hX hd r6 (ci := 0) rfl rfl m7 dX1_listed_3 (hC 63 _ zm63 _ _ _ _ hw) q2019 q2021 qs29 zh1 q2022 q130 zn63 rfl (Nat.le_of_ble_eq_true rfl) (st := []) rfl (zcs8 (Nat.le_of_ble_eq_true rfl)) rfl (zkV (fun s2 hw => ?_)) (zout hX hR hTb)
  refine z_aload_n hX dX1_listed_6 rfl (i := 0) rfl ?_
  obtain ⟨a9, f10, v8, r11, m12, e13, hw⟩ := hw
  refine z_get hX zc0 (k := 0) dX1_listed_7 (Nat.le_of_ble_eq_true rfl) (zlk hX q307) r11 m12 e13 ?_
  refine z_iload_n hX dX1_listed_10 rfl (i := 1) rfl ?_
  obtain ⟨a17, f18, r19, m20, hw⟩ := hw
  refine z_invV hX hd r19 (ci := 1) rfl rfl m20 dX1_listed_11 (hC 108 _ zm108 _ _ _ _ hw) q2023 q1532 q1533 zh2 q1534 q131 zn108 rfl (Nat.le_of_ble_eq_true rfl) (st := []) rfl (zcs8 (Nat.le_of_ble_eq_true rfl)) rfl (zkR (fun v14 s15 hw => ?_)) (zout hX hR hTb)
  refine z_iload_n hX dX1_listed_14 rfl (i := 2) rfl ?_
  obtain ⟨a24, f25, r26, m27, hw⟩ := hw
  refine z_invV hX hd r26 (ci := 2) rfl rfl m27 dX1_listed_15 (hC 129 _ zm129 _ _ _ _ hw) q2024 q372 q373 zh5 q374 q134 zn129 rfl (Nat.le_of_ble_eq_true rfl) (st := []) rfl (zcs8 (Nat.le_of_ble_eq_true rfl)) rfl (zkR (fun v21 s22 hw => ?_)) (zout hX hR hTb)
  refine z_cast hX dX1_listed_18 q2025 (zfa1 ⟨_, rfl, Or.inl rfl⟩ (zfa0)) hw.1 ?_
  have hw := hw.2
  obtain ⟨a31, f32, r33, m34, hw⟩ := hw
  refine z_invV hX hd r33 (ci := 10) rfl rfl m34 dX1_listed_21 (hC 432 _ zm432 _ _ _ _ hw) q2026 q515 q516 zh24 q517 q154 zn432 rfl (Nat.le_of_ble_eq_true rfl) (st := []) rfl (zcs8 (Nat.le_of_ble_eq_true rfl)) rfl (zkI (fun v28 s29 hw => ?_)) (zout hX hR hTb)
  exact z_ireturn hX hR dX1_listed_24 rfl hw
abbrev cX1_requireListed : ByteArray := prog_1_method_25_code
def yX1_requireListed : MethodName := ⟨RX1, "requireListed", "(ZI)V"⟩
def dkwX1_requireListed_0 : List UInt8 := [28, 133, 9, 42, 180, 0, 46, 27, 182, 0, 202, 182, 0, 126, 4, 100, 133, 184, 0, 84, 184, 0, 133, 177]
abbrev dktX1_requireListed_0 : List UInt8 := dkwX1_requireListed_0 ++ []
theorem dksX1_requireListed_0 : cX1_requireListed.data.toList.drop 0 = dktX1_requireListed_0 := by decide +kernel
theorem dX1_requireListed_0 : decode cX1_requireListed 0 = .ok (.iload_n 2, 1) := dk_28 (dk_at dksX1_requireListed_0 0 rfl rfl)
theorem dX1_requireListed_1 : decode cX1_requireListed 1 = .ok (.i2l, 1) := dk_133 (dk_at dksX1_requireListed_0 1 rfl rfl)
theorem dX1_requireListed_2 : decode cX1_requireListed 2 = .ok (.lconst 0, 1) := dk_9 (dk_at dksX1_requireListed_0 2 rfl rfl)
theorem dX1_requireListed_3 : decode cX1_requireListed 3 = .ok (.aload_n 0, 1) := dk_42 (dk_at dksX1_requireListed_0 3 rfl rfl)
theorem dX1_requireListed_4 : decode cX1_requireListed 4 = .ok (.getfield 46, 3) := dk_180 0 46 (dk_at dksX1_requireListed_0 4 rfl rfl)
theorem dX1_requireListed_7 : decode cX1_requireListed 7 = .ok (.iload_n 1, 1) := dk_27 (dk_at dksX1_requireListed_0 7 rfl rfl)
theorem dX1_requireListed_8 : decode cX1_requireListed 8 = .ok (.invokevirtual 202, 3) := dk_182 0 202 (dk_at dksX1_requireListed_0 8 rfl rfl)
theorem dX1_requireListed_11 : decode cX1_requireListed 11 = .ok (.invokevirtual 126, 3) := dk_182 0 126 (dk_at dksX1_requireListed_0 11 rfl rfl)
theorem dX1_requireListed_14 : decode cX1_requireListed 14 = .ok (.iconst 1, 1) := dk_4 (dk_at dksX1_requireListed_0 14 rfl rfl)
theorem dX1_requireListed_15 : decode cX1_requireListed 15 = .ok (.isub, 1) := dk_100 (dk_at dksX1_requireListed_0 15 rfl rfl)
theorem dX1_requireListed_16 : decode cX1_requireListed 16 = .ok (.i2l, 1) := dk_133 (dk_at dksX1_requireListed_0 16 rfl rfl)
theorem dX1_requireListed_17 : decode cX1_requireListed 17 = .ok (.invokestatic 84, 3) := dk_184 0 84 (dk_at dksX1_requireListed_0 17 rfl rfl)
theorem dX1_requireListed_20 : decode cX1_requireListed 20 = .ok (.invokestatic 133, 3) := dk_184 0 133 (dk_at dksX1_requireListed_0 20 rfl rfl)
theorem dX1_requireListed_23 : decode cX1_requireListed 23 = .ok (.return_, 1) := dk_177 (dk_at dksX1_requireListed_0 23 rfl rfl)
/-- PackingDuel.requireListed(ZI)V -/
def zb63 (G : zPg) (C : zO) (args : List Value) (Q : zQ) (Y : zY) (σ : zS) : Prop := ∃ (a0 : Nat) (x1 : Int32) (x2 : Int32), args = [.ref a0, .int x1, .int x2] ∧ (zgR σ (some a0) 0 0 (fun v1 => zrc σ v1 1 (fun a10 => zcl C 108 [.ref a10, .int x1] Y σ (zqR (fun v7 s8 => zrc s8 v7 2 (fun a17 => zcl C 128 [.ref a17] Y s8 (zqI (fun v14 s15 => zcl C 48 [.long x2.toInt64, .long (0 : Int64), .long ((v14 - (1 : Int32)).toInt64)] Y s15 (zqI (fun v21 s22 => zcl C 54 [.int v21] Y s22 (zqV (fun s25 => Q none s25))))))))))))
set_option maxHeartbeats 4000000 in
theorem wk63 {l : Launch} {g : zG} {d : Nat} {C : zO} (hG : zGk g) (hC : zSound l g d C) {args : List Value} {Q : zQ} {Y : zY} {σ : zS} (hw : zb63 (zpg g) C args Q Y σ) : zMet l g (d + 1) (⟨"PackingDuel", "requireListed", "(ZI)V"⟩, Cond.code ⟨"PackingDuel", "requireListed", "(ZI)V"⟩ prog_1_method_25_code 3 (Option.none : Option FieldType)) args σ Q Y := by
  obtain ⟨a0, x1, x2, rfl, hw⟩ := hw
  refine zof hG (by decide +kernel) [false, false, false] ⟨rfl, rfl, rfl, trivial⟩ (Nat.le_of_ble_eq_true rfl) (ls := [some (va_rf (some a0)), some (.int x1), some (.int x2)]) rfl ?_
  intro X hX hR hTb hd1 hd2 hl hg hnm
  subst hl
  subst hg
  have hd : zDep X d := ⟨hd1, hd2⟩
  refine z_iload_n hX dX1_requireListed_0 rfl (i := 2) rfl ?_
  refine z_i2l hX dX1_requireListed_1 ?_
  refine z_lconst hX (v := (0 : Int64)) dX1_requireListed_2 (by decide) ?_
  refine z_aload_n hX dX1_requireListed_3 rfl (i := 0) rfl ?_
  obtain ⟨a2, f3, v1, r4, m5, e6, hw⟩ := hw
  refine z_get hX zc0 (k := 0) dX1_requireListed_4 (Nat.le_of_ble_eq_true rfl) (zlk hX q307) r4 m5 e6 ?_
  refine z_iload_n hX dX1_requireListed_7 rfl (i := 1) rfl ?_
  obtain ⟨a10, f11, r12, m13, hw⟩ := hw
  refine z_invV hX hd r12 (ci := 1) rfl rfl m13 dX1_requireListed_8 (hC 108 _ zm108 _ _ _ _ hw) q2023 q1532 q1533 zh2 q1534 q131 zn108 rfl (Nat.le_of_ble_eq_true rfl) (st := [.long (0 : Int64), .long x2.toInt64]) rfl (zcs8 (Nat.le_of_ble_eq_true rfl)) rfl (zkR (fun v7 s8 hw => ?_)) (zout hX hR hTb)
  obtain ⟨a17, f18, r19, m20, hw⟩ := hw
  refine z_invV hX hd r19 (ci := 2) rfl rfl m20 dX1_requireListed_11 (hC 128 _ zm128 _ _ _ _ hw) q1630 q362 q363 zh5 q364 q134 zn128 rfl (Nat.le_of_ble_eq_true rfl) (st := [.long (0 : Int64), .long x2.toInt64]) rfl (zcs8 (Nat.le_of_ble_eq_true rfl)) rfl (zkI (fun v14 s15 hw => ?_)) (zout hX hR hTb)
  refine z_iconst hX (v := (1 : Int32)) dX1_requireListed_14 (by decide) ?_
  refine z_isub hX dX1_requireListed_15 ?_
  refine z_i2l hX dX1_requireListed_16 ?_
  refine z_invS hX hd dX1_requireListed_17 (hC 48 _ zm48 _ _ _ _ hw) q1014 q1015 zh1 q1016 q130 zn48 rfl (Nat.le_of_ble_eq_true rfl) (st := []) rfl (zcs8 (Nat.le_of_ble_eq_true rfl)) rfl (zkI (fun v21 s22 hw => ?_)) (zout hX hR hTb)
  refine z_invS hX hd dX1_requireListed_20 (hC 54 _ zm54 _ _ _ _ hw) q1640 q1641 zh1 q1642 q130 zn54 rfl (Nat.le_of_ble_eq_true rfl) (st := []) rfl (zcs8 (Nat.le_of_ble_eq_true rfl)) rfl (zkV (fun s25 hw => ?_)) (zout hX hR hTb)
  exact z_return hX hR dX1_requireListed_23 hw
abbrev cX1_payoff : ByteArray := prog_1_method_27_code
def yX1_payoff : MethodName := ⟨RX1, "payoff", "(II)I"⟩
def dkwX1_payoff_2 : List UInt8 := [182, 0, 216, 182, 0, 219, 172]
abbrev dktX1_payoff_2 : List UInt8 := dkwX1_payoff_2 ++ []
def dkwX1_payoff_1 : List UInt8 := [182, 0, 210, 192, 0, 214, 182, 0, 216, 42, 180, 0, 46, 180, 0, 153, 28, 182, 0, 210, 192, 0, 214]
abbrev dktX1_payoff_1 : List UInt8 := dkwX1_payoff_1 ++ dktX1_payoff_2
def dkwX1_payoff_0 : List UInt8 := [42, 4, 27, 182, 0, 206, 42, 3, 28, 182, 0, 206, 42, 180, 0, 46, 42, 180, 0, 46, 180, 0, 150, 27]
abbrev dktX1_payoff_0 : List UInt8 := dkwX1_payoff_0 ++ dktX1_payoff_1
theorem dksX1_payoff_0 : cX1_payoff.data.toList.drop 0 = dktX1_payoff_0 := by decide +kernel
theorem dksX1_payoff_1 : cX1_payoff.data.toList.drop 24 = dktX1_payoff_1 := dk_seg dksX1_payoff_0 24 rfl rfl
theorem dksX1_payoff_2 : cX1_payoff.data.toList.drop 47 = dktX1_payoff_2 := dk_seg dksX1_payoff_1 23 rfl rfl
theorem dX1_payoff_0 : decode cX1_payoff 0 = .ok (.aload_n 0, 1) := dk_42 (dk_at dksX1_payoff_0 0 rfl rfl)
theorem dX1_payoff_1 : decode cX1_payoff 1 = .ok (.iconst 1, 1) := dk_4 (dk_at dksX1_payoff_0 1 rfl rfl)
theorem dX1_payoff_2 : decode cX1_payoff 2 = .ok (.iload_n 1, 1) := dk_27 (dk_at dksX1_payoff_0 2 rfl rfl)
theorem dX1_payoff_3 : decode cX1_payoff 3 = .ok (.invokevirtual 206, 3) := dk_182 0 206 (dk_at dksX1_payoff_0 3 rfl rfl)
theorem dX1_payoff_6 : decode cX1_payoff 6 = .ok (.aload_n 0, 1) := dk_42 (dk_at dksX1_payoff_0 6 rfl rfl)
theorem dX1_payoff_7 : decode cX1_payoff 7 = .ok (.iconst 0, 1) := dk_3 (dk_at dksX1_payoff_0 7 rfl rfl)
theorem dX1_payoff_8 : decode cX1_payoff 8 = .ok (.iload_n 2, 1) := dk_28 (dk_at dksX1_payoff_0 8 rfl rfl)
theorem dX1_payoff_9 : decode cX1_payoff 9 = .ok (.invokevirtual 206, 3) := dk_182 0 206 (dk_at dksX1_payoff_0 9 rfl rfl)
theorem dX1_payoff_12 : decode cX1_payoff 12 = .ok (.aload_n 0, 1) := dk_42 (dk_at dksX1_payoff_0 12 rfl rfl)
theorem dX1_payoff_13 : decode cX1_payoff 13 = .ok (.getfield 46, 3) := dk_180 0 46 (dk_at dksX1_payoff_0 13 rfl rfl)
theorem dX1_payoff_16 : decode cX1_payoff 16 = .ok (.aload_n 0, 1) := dk_42 (dk_at dksX1_payoff_0 16 rfl rfl)
theorem dX1_payoff_17 : decode cX1_payoff 17 = .ok (.getfield 46, 3) := dk_180 0 46 (dk_at dksX1_payoff_0 17 rfl rfl)
theorem dX1_payoff_20 : decode cX1_payoff 20 = .ok (.getfield 150, 3) := dk_180 0 150 (dk_at dksX1_payoff_0 20 rfl rfl)
theorem dX1_payoff_23 : decode cX1_payoff 23 = .ok (.iload_n 1, 1) := dk_27 (dk_at dksX1_payoff_0 23 rfl rfl)
theorem dX1_payoff_24 : decode cX1_payoff 24 = .ok (.invokevirtual 210, 3) := dk_182 0 210 (dk_at dksX1_payoff_1 0 rfl rfl)
theorem dX1_payoff_27 : decode cX1_payoff 27 = .ok (.checkcast 214, 3) := dk_192 0 214 (dk_at dksX1_payoff_1 3 rfl rfl)
theorem dX1_payoff_30 : decode cX1_payoff 30 = .ok (.invokevirtual 216, 3) := dk_182 0 216 (dk_at dksX1_payoff_1 6 rfl rfl)
theorem dX1_payoff_33 : decode cX1_payoff 33 = .ok (.aload_n 0, 1) := dk_42 (dk_at dksX1_payoff_1 9 rfl rfl)
theorem dX1_payoff_34 : decode cX1_payoff 34 = .ok (.getfield 46, 3) := dk_180 0 46 (dk_at dksX1_payoff_1 10 rfl rfl)
theorem dX1_payoff_37 : decode cX1_payoff 37 = .ok (.getfield 153, 3) := dk_180 0 153 (dk_at dksX1_payoff_1 13 rfl rfl)
theorem dX1_payoff_40 : decode cX1_payoff 40 = .ok (.iload_n 2, 1) := dk_28 (dk_at dksX1_payoff_1 16 rfl rfl)
theorem dX1_payoff_41 : decode cX1_payoff 41 = .ok (.invokevirtual 210, 3) := dk_182 0 210 (dk_at dksX1_payoff_1 17 rfl rfl)
theorem dX1_payoff_44 : decode cX1_payoff 44 = .ok (.checkcast 214, 3) := dk_192 0 214 (dk_at dksX1_payoff_1 20 rfl rfl)
theorem dX1_payoff_47 : decode cX1_payoff 47 = .ok (.invokevirtual 216, 3) := dk_182 0 216 (dk_at dksX1_payoff_2 0 rfl rfl)
theorem dX1_payoff_50 : decode cX1_payoff 50 = .ok (.invokevirtual 219, 3) := dk_182 0 219 (dk_at dksX1_payoff_2 3 rfl rfl)
theorem dX1_payoff_53 : decode cX1_payoff 53 = .ok (.ireturn, 1) := dk_172 (dk_at dksX1_payoff_2 6 rfl rfl)
/-- PackingDuel.payoff(II)I -/
def zb64 (G : zPg) (C : zO) (args : List Value) (Q : zQ) (Y : zY) (σ : zS) : Prop := ∃ (a0 : Nat) (x1 : Int32) (x2 : Int32), args = [.ref a0, .int x1, .int x2] ∧ (zrc σ (some a0) 0 (fun a4 => zcl C 63 [.ref a4, .int (1 : Int32), .int x1] Y σ (zqV (fun s2 => zrc s2 (some a0) 0 (fun a11 => zcl C 63 [.ref a11, .int (0 : Int32), .int x2] Y s2 (zqV (fun s9 => zgR s9 (some a0) 0 0 (fun v15 => zgR s9 (some a0) 0 0 (fun v21 => zgR s9 v21 1 1 (fun v27 => zrc s9 v27 2 (fun a36 => zcl C 129 [.ref a36, .int x1] Y s9 (zqR (fun v33 s34 => (zcst s34 v33 [10] ∧ zrc s34 v33 10 (fun a43 => zcl C 432 [.ref a43] Y s34 (zqI (fun v40 s41 => zgR s41 (some a0) 0 0 (fun v47 => zgR s41 v47 1 2 (fun v53 => zrc s41 v53 2 (fun a62 => zcl C 129 [.ref a62, .int x2] Y s41 (zqR (fun v59 s60 => (zcst s60 v59 [10] ∧ zrc s60 v59 10 (fun a69 => zcl C 432 [.ref a69] Y s60 (zqI (fun v66 s67 => zrc s67 v15 1 (fun a76 => zcl C 93 [.ref a76, .int v40, .int v66] Y s67 (zqI (fun v73 s74 => Q (some (.int v73)) s74)))))))))))))))))))))))))))))
set_option maxHeartbeats 4000000 in
theorem wk64 {l : Launch} {g : zG} {d : Nat} {C : zO} (hG : zGk g) (hC : zSound l g d C) {args : List Value} {Q : zQ} {Y : zY} {σ : zS} (hw : zb64 (zpg g) C args Q Y σ) : zMet l g (d + 1) (⟨"PackingDuel", "payoff", "(II)I"⟩, Cond.code ⟨"PackingDuel", "payoff", "(II)I"⟩ prog_1_method_27_code 3 (Option.some FieldType.int)) args σ Q Y := by
  obtain ⟨a0, x1, x2, rfl, hw⟩ := hw
  refine zof hG (by decide +kernel) [false, false, false] ⟨rfl, rfl, rfl, trivial⟩ (Nat.le_of_ble_eq_true rfl) (ls := [some (va_rf (some a0)), some (.int x1), some (.int x2)]) rfl ?_
  intro X hX hR hTb hd1 hd2 hl hg hnm
  subst hl
  subst hg
  have hd : zDep X d := ⟨hd1, hd2⟩
  refine z_aload_n hX dX1_payoff_0 rfl (i := 0) rfl ?_
  refine z_iconst hX (v := (1 : Int32)) dX1_payoff_1 (by decide) ?_
  refine z_iload_n hX dX1_payoff_2 rfl (i := 1) rfl ?_
  obtain ⟨a4, f5, r6, m7, hw⟩ := hw
  refine z_invV hX hd r6 (ci := 0) rfl rfl m7 dX1_payoff_3 (hC 63 _ zm63 _ _ _ _ hw) q2019 q2021 qs29 zh1 q2022 q130 zn63 rfl (Nat.le_of_ble_eq_true rfl) (st := []) rfl (zcs8 (Nat.le_of_ble_eq_true rfl)) rfl (zkV (fun s2 hw => ?_)) (zout hX hR hTb)
  refine z_aload_n hX dX1_payoff_6 rfl (i := 0) rfl ?_
  refine z_iconst hX (v := (0 : Int32)) dX1_payoff_7 (by decide) ?_
  refine z_iload_n hX dX1_payoff_8 rfl (i := 2) rfl ?_
  obtain ⟨a11, f12, r13, m14, hw⟩ := hw
  refine z_invV hX hd r13 (ci := 0) rfl rfl m14 dX1_payoff_9 (hC 63 _ zm63 _ _ _ _ hw) q2019 q2021 qs29 zh1 q2022 q130 zn63 rfl (Nat.le_of_ble_eq_true rfl) (st := []) rfl (zcs8 (Nat.le_of_ble_eq_true rfl)) rfl (zkV (fun s9 hw => ?_)) (zout hX hR hTb)
  refine z_aload_n hX dX1_payoff_12 rfl (i := 0) rfl ?_
  obtain ⟨a16, f17, v15, r18, m19, e20, hw⟩ := hw
  refine z_get hX zc0 (k := 0) dX1_payoff_13 (Nat.le_of_ble_eq_true rfl) (zlk hX q307) r18 m19 e20 ?_
  refine z_aload_n hX dX1_payoff_16 rfl (i := 0) rfl ?_
  obtain ⟨a22, f23, v21, r24, m25, e26, hw⟩ := hw
  refine z_get hX zc0 (k := 0) dX1_payoff_17 (Nat.le_of_ble_eq_true rfl) (zlk hX q307) r24 m25 e26 ?_
  obtain ⟨a28, f29, v27, r30, m31, e32, hw⟩ := hw
  refine z_get hX zc1 (k := 1) dX1_payoff_20 (Nat.le_of_ble_eq_true rfl) (zlkN hX "PackingDuel" q230) r30 m31 e32 ?_
  refine z_iload_n hX dX1_payoff_23 rfl (i := 1) rfl ?_
  obtain ⟨a36, f37, r38, m39, hw⟩ := hw
  refine z_invV hX hd r38 (ci := 2) rfl rfl m39 dX1_payoff_24 (hC 129 _ zm129 _ _ _ _ hw) q2024 q372 q373 zh5 q374 q134 zn129 rfl (Nat.le_of_ble_eq_true rfl) (st := [va_rf v15]) rfl (zcs8 (Nat.le_of_ble_eq_true rfl)) rfl (zkR (fun v33 s34 hw => ?_)) (zout hX hR hTb)
  refine z_cast hX dX1_payoff_27 q2025 (zfa1 ⟨_, rfl, Or.inl rfl⟩ (zfa0)) hw.1 ?_
  have hw := hw.2
  obtain ⟨a43, f44, r45, m46, hw⟩ := hw
  refine z_invV hX hd r45 (ci := 10) rfl rfl m46 dX1_payoff_30 (hC 432 _ zm432 _ _ _ _ hw) q2026 q515 q516 zh24 q517 q154 zn432 rfl (Nat.le_of_ble_eq_true rfl) (st := [va_rf v15]) rfl (zcs8 (Nat.le_of_ble_eq_true rfl)) rfl (zkI (fun v40 s41 hw => ?_)) (zout hX hR hTb)
  refine z_aload_n hX dX1_payoff_33 rfl (i := 0) rfl ?_
  obtain ⟨a48, f49, v47, r50, m51, e52, hw⟩ := hw
  refine z_get hX zc0 (k := 0) dX1_payoff_34 (Nat.le_of_ble_eq_true rfl) (zlk hX q307) r50 m51 e52 ?_
  obtain ⟨a54, f55, v53, r56, m57, e58, hw⟩ := hw
  refine z_get hX zc1 (k := 2) dX1_payoff_37 (Nat.le_of_ble_eq_true rfl) (zlkN hX "PackingDuel" q232) r56 m57 e58 ?_
  refine z_iload_n hX dX1_payoff_40 rfl (i := 2) rfl ?_
  obtain ⟨a62, f63, r64, m65, hw⟩ := hw
  refine z_invV hX hd r64 (ci := 2) rfl rfl m65 dX1_payoff_41 (hC 129 _ zm129 _ _ _ _ hw) q2024 q372 q373 zh5 q374 q134 zn129 rfl (Nat.le_of_ble_eq_true rfl) (st := [.int v40, va_rf v15]) rfl (zcs8 (Nat.le_of_ble_eq_true rfl)) rfl (zkR (fun v59 s60 hw => ?_)) (zout hX hR hTb)
  refine z_cast hX dX1_payoff_44 q2025 (zfa1 ⟨_, rfl, Or.inl rfl⟩ (zfa0)) hw.1 ?_
  have hw := hw.2
  obtain ⟨a69, f70, r71, m72, hw⟩ := hw
  refine z_invV hX hd r71 (ci := 10) rfl rfl m72 dX1_payoff_47 (hC 432 _ zm432 _ _ _ _ hw) q2026 q515 q516 zh24 q517 q154 zn432 rfl (Nat.le_of_ble_eq_true rfl) (st := [.int v40, va_rf v15]) rfl (zcs8 (Nat.le_of_ble_eq_true rfl)) rfl (zkI (fun v66 s67 hw => ?_)) (zout hX hR hTb)
  obtain ⟨a76, f77, r78, m79, hw⟩ := hw
  refine z_invV hX hd r78 (ci := 1) rfl rfl m79 dX1_payoff_50 (hC 93 _ zm93 _ _ _ _ hw) q2034 q519 q520 zh2 q521 q131 zn93 rfl (Nat.le_of_ble_eq_true rfl) (st := []) rfl (zcs8 (Nat.le_of_ble_eq_true rfl)) rfl (zkI (fun v73 s74 hw => ?_)) (zout hX hR hTb)
  exact z_ireturn hX hR dX1_payoff_53 rfl hw
abbrev cX1_weight : ByteArray := prog_1_method_31_code
def yX1_weight : MethodName := ⟨RX1, "weight", "(ZIZ)J"⟩
def dkwX1_weight_2 : List UInt8 := [180, 1, 5, 28, 47, 25, 4, 180, 0, 241, 183, 0, 244, 29, 184, 0, 247, 173]
abbrev dktX1_weight_2 : List UInt8 := dkwX1_weight_2 ++ []
def dkwX1_weight_1 : List UInt8 := [167, 0, 40, 187, 0, 223, 89, 27, 153, 0, 13, 25, 4, 180, 1, 1, 28, 47, 167, 0, 10, 25, 4]
abbrev dktX1_weight_1 : List UInt8 := dkwX1_weight_1 ++ dktX1_weight_2
def dkwX1_weight_0 : List UInt8 := [42, 27, 28, 182, 0, 206, 42, 180, 0, 46, 182, 0, 231, 58, 4, 25, 4, 199, 0, 9, 20, 0, 235]
abbrev dktX1_weight_0 : List UInt8 := dkwX1_weight_0 ++ dktX1_weight_1
theorem dksX1_weight_0 : cX1_weight.data.toList.drop 0 = dktX1_weight_0 := by decide +kernel
theorem dksX1_weight_1 : cX1_weight.data.toList.drop 23 = dktX1_weight_1 := dk_seg dksX1_weight_0 23 rfl rfl
theorem dksX1_weight_2 : cX1_weight.data.toList.drop 46 = dktX1_weight_2 := dk_seg dksX1_weight_1 23 rfl rfl
theorem dX1_weight_0 : decode cX1_weight 0 = .ok (.aload_n 0, 1) := dk_42 (dk_at dksX1_weight_0 0 rfl rfl)
theorem dX1_weight_1 : decode cX1_weight 1 = .ok (.iload_n 1, 1) := dk_27 (dk_at dksX1_weight_0 1 rfl rfl)
theorem dX1_weight_2 : decode cX1_weight 2 = .ok (.iload_n 2, 1) := dk_28 (dk_at dksX1_weight_0 2 rfl rfl)
theorem dX1_weight_3 : decode cX1_weight 3 = .ok (.invokevirtual 206, 3) := dk_182 0 206 (dk_at dksX1_weight_0 3 rfl rfl)
theorem dX1_weight_6 : decode cX1_weight 6 = .ok (.aload_n 0, 1) := dk_42 (dk_at dksX1_weight_0 6 rfl rfl)
theorem dX1_weight_7 : decode cX1_weight 7 = .ok (.getfield 46, 3) := dk_180 0 46 (dk_at dksX1_weight_0 7 rfl rfl)
theorem dX1_weight_10 : decode cX1_weight 10 = .ok (.invokevirtual 231, 3) := dk_182 0 231 (dk_at dksX1_weight_0 10 rfl rfl)
theorem dX1_weight_13 : decode cX1_weight 13 = .ok (.astore 4, 2) := dk_58 4 (dk_at dksX1_weight_0 13 rfl rfl)
theorem dX1_weight_15 : decode cX1_weight 15 = .ok (.aload 4, 2) := dk_25 4 (dk_at dksX1_weight_0 15 rfl rfl)
theorem dX1_weight_17 : decode cX1_weight 17 = .ok (.ifnonnull 9, 3) := dk_199 0 9 (dk_at dksX1_weight_0 17 rfl rfl)
theorem dX1_weight_20 : decode cX1_weight 20 = .ok (.ldc2_w 235, 3) := dk_20 0 235 (dk_at dksX1_weight_0 20 rfl rfl)
theorem dX1_weight_23 : decode cX1_weight 23 = .ok (.goto 40, 3) := dk_167 0 40 (dk_at dksX1_weight_1 0 rfl rfl)
theorem dX1_weight_26 : decode cX1_weight 26 = .ok (.new 223, 3) := dk_187 0 223 (dk_at dksX1_weight_1 3 rfl rfl)
theorem dX1_weight_29 : decode cX1_weight 29 = .ok (.dup, 1) := dk_89 (dk_at dksX1_weight_1 6 rfl rfl)
theorem dX1_weight_30 : decode cX1_weight 30 = .ok (.iload_n 1, 1) := dk_27 (dk_at dksX1_weight_1 7 rfl rfl)
theorem dX1_weight_31 : decode cX1_weight 31 = .ok (.ifCond .eq 13, 3) := dk_153 0 13 (dk_at dksX1_weight_1 8 rfl rfl)
theorem dX1_weight_34 : decode cX1_weight 34 = .ok (.aload 4, 2) := dk_25 4 (dk_at dksX1_weight_1 11 rfl rfl)
theorem dX1_weight_36 : decode cX1_weight 36 = .ok (.getfield 257, 3) := dk_180 1 1 (dk_at dksX1_weight_1 13 rfl rfl)
theorem dX1_weight_39 : decode cX1_weight 39 = .ok (.iload_n 2, 1) := dk_28 (dk_at dksX1_weight_1 16 rfl rfl)
theorem dX1_weight_40 : decode cX1_weight 40 = .ok (.laload, 1) := dk_47 (dk_at dksX1_weight_1 17 rfl rfl)
theorem dX1_weight_41 : decode cX1_weight 41 = .ok (.goto 10, 3) := dk_167 0 10 (dk_at dksX1_weight_1 18 rfl rfl)
theorem dX1_weight_44 : decode cX1_weight 44 = .ok (.aload 4, 2) := dk_25 4 (dk_at dksX1_weight_1 21 rfl rfl)
theorem dX1_weight_46 : decode cX1_weight 46 = .ok (.getfield 261, 3) := dk_180 1 5 (dk_at dksX1_weight_2 0 rfl rfl)
theorem dX1_weight_49 : decode cX1_weight 49 = .ok (.iload_n 2, 1) := dk_28 (dk_at dksX1_weight_2 3 rfl rfl)
theorem dX1_weight_50 : decode cX1_weight 50 = .ok (.laload, 1) := dk_47 (dk_at dksX1_weight_2 4 rfl rfl)
theorem dX1_weight_51 : decode cX1_weight 51 = .ok (.aload 4, 2) := dk_25 4 (dk_at dksX1_weight_2 5 rfl rfl)
theorem dX1_weight_53 : decode cX1_weight 53 = .ok (.getfield 241, 3) := dk_180 0 241 (dk_at dksX1_weight_2 7 rfl rfl)
theorem dX1_weight_56 : decode cX1_weight 56 = .ok (.invokespecial 244, 3) := dk_183 0 244 (dk_at dksX1_weight_2 10 rfl rfl)
theorem dX1_weight_59 : decode cX1_weight 59 = .ok (.iload_n 3, 1) := dk_29 (dk_at dksX1_weight_2 13 rfl rfl)
theorem dX1_weight_60 : decode cX1_weight 60 = .ok (.invokestatic 247, 3) := dk_184 0 247 (dk_at dksX1_weight_2 14 rfl rfl)
theorem dX1_weight_63 : decode cX1_weight 63 = .ok (.lreturn, 1) := dk_173 (dk_at dksX1_weight_2 17 rfl rfl)
/-- PackingDuel.weight(ZIZ)J -/
def zb65 (G : zPg) (C : zO) (args : List Value) (Q : zQ) (Y : zY) (σ : zS) : Prop := ∃ (a0 : Nat) (x1 : Int32) (x2 : Int32) (x3 : Int32), args = [.ref a0, .int x1, .int x2, .int x3] ∧ (zrc σ (some a0) 0 (fun a4 => zcl C 63 [.ref a4, .int x1, .int x2] Y σ (zqV (fun s2 => zgR s2 (some a0) 0 0 (fun v8 => zrc s2 v8 1 (fun a17 => zcl C 90 [.ref a17] Y s2 (zqR (fun v14 s15 => zJ (fun (p21 : Int64) (s22 : zS) => Q (some (.long p21)) s22) (fun (j23 : Int64 → zS → Prop) => ((¬ v14 = none) → znew s15 24 [.long 0, .long 0] 2 (fun s25 => zJ (fun (p28 : Int64) (s29 : zS) => zgL s29 v14 23 5 (fun v31 => (∃ a40, (some s15.2.1) = some a40 ∧ zcl C 503 [.ref a40, .long p28, .long v31] Y s29 (zqV (fun s38 => zcl C 32 [va_rf (some s15.2.1), .int x3] Y s38 (zqL (fun v42 s43 => j23 v42 s43))))))) (fun (j30 : Int64 → zS → Prop) => ((x1 = 0) → zgR s25 v14 23 4 (fun v46 => zaL s25 v46 x2 (fun v58 => j30 v58 s25))) ∧ ((¬ x1 = 0) → zgR s25 v14 23 3 (fun v60 => zaL s25 v60 x2 (fun v72 => j30 v72 s25)))))) ∧ ((v14 = none) → j23 (-1000000000 : Int64) s15))))))))))
set_option maxHeartbeats 4000000 in
theorem wk65 {l : Launch} {g : zG} {d : Nat} {C : zO} (hG : zGk g) (hC : zSound l g d C) {args : List Value} {Q : zQ} {Y : zY} {σ : zS} (hw : zb65 (zpg g) C args Q Y σ) : zMet l g (d + 1) (⟨"PackingDuel", "weight", "(ZIZ)J"⟩, Cond.code ⟨"PackingDuel", "weight", "(ZIZ)J"⟩ prog_1_method_31_code 5 (Option.some FieldType.long)) args σ Q Y := by
  obtain ⟨a0, x1, x2, x3, rfl, hw⟩ := hw
  refine zof hG (by decide +kernel) [false, false, false, false] ⟨rfl, rfl, rfl, rfl, trivial⟩ (Nat.le_of_ble_eq_true rfl) (ls := [some (va_rf (some a0)), some (.int x1), some (.int x2), some (.int x3), none]) rfl ?_
  intro X hX hR hTb hd1 hd2 hl hg hnm
  subst hl
  subst hg
  have hd : zDep X d := ⟨hd1, hd2⟩
  refine z_aload_n hX dX1_weight_0 rfl (i := 0) rfl ?_
  refine z_iload_n hX dX1_weight_1 rfl (i := 1) rfl ?_
  refine z_iload_n hX dX1_weight_2 rfl (i := 2) rfl ?_
  obtain ⟨a4, f5, r6, m7, hw⟩ := hw
  refine z_invV hX hd r6 (ci := 0) rfl rfl m7 dX1_weight_3 (hC 63 _ zm63 _ _ _ _ hw) q2019 q2021 qs29 zh1 q2022 q130 zn63 rfl (Nat.le_of_ble_eq_true rfl) (st := []) rfl (zcs8 (Nat.le_of_ble_eq_true rfl)) rfl (zkV (fun s2 hw => ?_)) (zout hX hR hTb)
  refine z_aload_n hX dX1_weight_6 rfl (i := 0) rfl ?_
  obtain ⟨a9, f10, v8, r11, m12, e13, hw⟩ := hw
  refine z_get hX zc0 (k := 0) dX1_weight_7 (Nat.le_of_ble_eq_true rfl) (zlk hX q307) r11 m12 e13 ?_
  obtain ⟨a17, f18, r19, m20, hw⟩ := hw
  refine z_invV hX hd r19 (ci := 1) rfl rfl m20 dX1_weight_10 (hC 90 _ zm90 _ _ _ _ hw) q471 q472 q473 zh2 q474 q131 zn90 rfl (Nat.le_of_ble_eq_true rfl) (st := []) rfl (zcs8 (Nat.le_of_ble_eq_true rfl)) rfl (zkR (fun v14 s15 hw => ?_)) (zout hX hR hTb)
  refine z_astore hX dX1_weight_13 (i := 4) (Nat.le_of_ble_eq_true rfl) rfl (ls2 := [some (va_rf (some a0)), some (.int x1), some (.int x2), some (.int x3), some (va_rf v14)]) rfl ?_
  refine z_aload hX dX1_weight_15 (i := 4) rfl ?_
  refine zJ_w (P := fun (j : Int64 → zS → Prop) => ∀ (p21 : Int64) (s22 : zS), j p21 s22 → zW X s22 63 [none, none, none, none, none] [.long p21]) hw (fun p21 s22 hw => ?_) (fun j23 hj23 hw => ?_)
  · exact z_lreturn hX hR dX1_weight_63 hw
  · refine z_ifnonnull hX dX1_weight_17 (tgt := 26) rfl (fun c24 => ?_) (fun c24 => ?_)
    · have hw := hw.1 c24
      refine z_new hX zc24 dX1_weight_26 q604 q605 q178 (fs := [.long 0, .long 0]) (fun j hj => by have hj : j < 2 := hj; exact zdf24 j hj) hw.1 hw.2.1 (fun z26 => z_nm (fun s25 e27 => ?_))
      have hw := hw.2.2 z26 s25 e27
      refine z_dup hX dX1_weight_29 (zc_rf _) ?_
      refine z_iload_n hX dX1_weight_30 rfl (i := 1) rfl ?_
      refine zJ_w (P := fun (j : Int64 → zS → Prop) => ∀ (p28 : Int64) (s29 : zS), j p28 s29 → zW X s29 51 [none, none, none, some (.int x3), some (va_rf v14)] [.long p28, va_rf (some s15.2.1), va_rf (some s15.2.1)]) hw (fun p28 s29 hw => ?_) (fun j30 hj30 hw => ?_)
      · refine z_aload hX dX1_weight_51 (i := 4) rfl ?_
        obtain ⟨a32, f33, v31, r34, m35, e36, hw⟩ := hw
        refine z_get hX zc23 (k := 5) dX1_weight_53 (Nat.le_of_ble_eq_true rfl) (zlkN hX "PackingDuel" q572) r34 m35 e36 ?_
        obtain ⟨a40, r41, hw⟩ := hw
        refine z_invI hX hd r41 dX1_weight_56 (hC 503 _ zm503 _ _ _ _ hw) q606 q607 rfl zh45 q608 q178 zn503 rfl (Nat.le_of_ble_eq_true rfl) (st := [va_rf (some s15.2.1)]) rfl (zcs8 (Nat.le_of_ble_eq_true rfl)) rfl (zkV (fun s38 hw => ?_)) (zout hX hR hTb)
        refine z_iload_n hX dX1_weight_59 rfl (i := 3) rfl ?_
        refine z_invS hX hd dX1_weight_60 (hC 32 _ zm32 _ _ _ _ hw) q622 q623 zh1 q624 q130 zn32 rfl (Nat.le_of_ble_eq_true rfl) (st := []) rfl (zcs8 (Nat.le_of_ble_eq_true rfl)) rfl (zkL (fun v42 s43 hw => ?_)) (zout hX hR hTb)
        refine z_sub (ls' := [none, none, none, none, none]) (zsN (zsN (zsN (zsN (zsN (zs0)))))) ?_
        exact hj23 _ _ hw
      · refine z_if_eq hX dX1_weight_31 (tgt := 44) rfl (fun c45 => ?_) (fun c45 => ?_)
        · have hw := hw.1 c45
          refine z_aload hX dX1_weight_44 (i := 4) rfl ?_
          obtain ⟨a47, f48, v46, r49, m50, e51, hw⟩ := hw
          refine z_get hX zc23 (k := 4) dX1_weight_46 (Nat.le_of_ble_eq_true rfl) (zlkN hX "PackingDuel" q570) r49 m50 e51 ?_
          refine z_iload_n hX dX1_weight_49 rfl (i := 2) rfl ?_
          obtain ⟨a52, n53, f54, r55, m56, i57, hw⟩ := hw
          refine z_lald hX dX1_weight_50 r55 m56 i57 ?_
          revert hw
          generalize f54 (Int32.toNatClampNeg x2) = v58
          intro hw
          refine z_sub (ls' := [none, none, none, some (.int x3), some (va_rf v14)]) (zsN (zsN (zsN (zsS (zsS (zs0)))))) ?_
          exact hj30 _ _ hw
        · have hw := hw.2 c45
          refine z_aload hX dX1_weight_34 (i := 4) rfl ?_
          obtain ⟨a61, f62, v60, r63, m64, e65, hw⟩ := hw
          refine z_get hX zc23 (k := 3) dX1_weight_36 (Nat.le_of_ble_eq_true rfl) (zlkN hX "PackingDuel" q568) r63 m64 e65 ?_
          refine z_iload_n hX dX1_weight_39 rfl (i := 2) rfl ?_
          obtain ⟨a66, n67, f68, r69, m70, i71, hw⟩ := hw
          refine z_lald hX dX1_weight_40 r69 m70 i71 ?_
          revert hw
          generalize f68 (Int32.toNatClampNeg x2) = v72
          intro hw
          refine z_goto hX dX1_weight_41 (tgt := 51) rfl ?_
          refine z_sub (ls' := [none, none, none, some (.int x3), some (va_rf v14)]) (zsN (zsN (zsN (zsS (zsS (zs0)))))) ?_
          exact hj30 _ _ hw
    · have hw := hw.2 c24
      refine z_ldc2 hX dX1_weight_20 q603 ?_
      refine z_goto hX dX1_weight_23 (tgt := 63) rfl ?_
      refine z_sub (ls' := [none, none, none, none, none]) (zsN (zsN (zsN (zsN (zsN (zs0)))))) ?_
      exact hj23 _ _ hw
abbrev cX1_game : ByteArray := prog_1_method_33_code
def yX1_game : MethodName := ⟨RX1, "game", "(I)I"⟩
def dkwX1_game_5 : List UInt8 := [180, 0, 46, 180, 1, 34, 172]
abbrev dktX1_game_5 : List UInt8 := dkwX1_game_5 ++ []
def dkwX1_game_4 : List UInt8 := [180, 0, 46, 182, 1, 27, 153, 0, 7, 2, 167, 0, 20, 42, 180, 0, 46, 180, 1, 31, 167, 0, 10, 42]
abbrev dktX1_game_4 : List UInt8 := dkwX1_game_4 ++ dktX1_game_5
def dkwX1_game_3 : List UInt8 := [42, 180, 0, 46, 182, 1, 19, 182, 1, 22, 167, 0, 44, 42, 180, 0, 46, 182, 1, 24, 167, 0, 34, 42]
abbrev dktX1_game_3 : List UInt8 := dkwX1_game_3 ++ dktX1_game_4
def dkwX1_game_2 : List UInt8 := [42, 180, 0, 46, 180, 1, 13, 167, 0, 71, 42, 180, 0, 46, 180, 1, 16, 167, 0, 61, 42, 180, 0, 46]
abbrev dktX1_game_2 : List UInt8 := dkwX1_game_2 ++ dktX1_game_3
def dkwX1_game_1 : List UInt8 := [170, 0, 0, 0, 0, 0, 106, 0, 0, 0, 0, 0, 0, 0, 4, 0, 0, 0, 35, 0, 0, 0, 45, 0, 0, 0, 55, 0, 0, 0, 72, 0, 0, 0, 82]
abbrev dktX1_game_1 : List UInt8 := dkwX1_game_1 ++ dktX1_game_2
def dkwX1_game_0 : List UInt8 := [27, 133, 9, 20, 1, 11, 184, 0, 84, 184, 0, 133, 27]
abbrev dktX1_game_0 : List UInt8 := dkwX1_game_0 ++ dktX1_game_1
theorem dksX1_game_0 : cX1_game.data.toList.drop 0 = dktX1_game_0 := by decide +kernel
theorem dksX1_game_1 : cX1_game.data.toList.drop 13 = dktX1_game_1 := dk_seg dksX1_game_0 13 rfl rfl
theorem dksX1_game_2 : cX1_game.data.toList.drop 48 = dktX1_game_2 := dk_seg dksX1_game_1 35 rfl rfl
theorem dksX1_game_3 : cX1_game.data.toList.drop 72 = dktX1_game_3 := dk_seg dksX1_game_2 24 rfl rfl
theorem dksX1_game_4 : cX1_game.data.toList.drop 96 = dktX1_game_4 := dk_seg dksX1_game_3 24 rfl rfl
theorem dksX1_game_5 : cX1_game.data.toList.drop 120 = dktX1_game_5 := dk_seg dksX1_game_4 24 rfl rfl
theorem dX1_game_0 : decode cX1_game 0 = .ok (.iload_n 1, 1) := dk_27 (dk_at dksX1_game_0 0 rfl rfl)
theorem dX1_game_1 : decode cX1_game 1 = .ok (.i2l, 1) := dk_133 (dk_at dksX1_game_0 1 rfl rfl)
theorem dX1_game_2 : decode cX1_game 2 = .ok (.lconst 0, 1) := dk_9 (dk_at dksX1_game_0 2 rfl rfl)
theorem dX1_game_3 : decode cX1_game 3 = .ok (.ldc2_w 267, 3) := dk_20 1 11 (dk_at dksX1_game_0 3 rfl rfl)
theorem dX1_game_6 : decode cX1_game 6 = .ok (.invokestatic 84, 3) := dk_184 0 84 (dk_at dksX1_game_0 6 rfl rfl)
theorem dX1_game_9 : decode cX1_game 9 = .ok (.invokestatic 133, 3) := dk_184 0 133 (dk_at dksX1_game_0 9 rfl rfl)
theorem dX1_game_12 : decode cX1_game 12 = .ok (.iload_n 1, 1) := dk_27 (dk_at dksX1_game_0 12 rfl rfl)
theorem dX1_game_13 : decode cX1_game 13 = .ok (.tableswitch 106 0 4 #[35, 45, 55, 72, 82], 35) := by decide +kernel
theorem dX1_game_48 : decode cX1_game 48 = .ok (.aload_n 0, 1) := dk_42 (dk_at dksX1_game_2 0 rfl rfl)
theorem dX1_game_49 : decode cX1_game 49 = .ok (.getfield 46, 3) := dk_180 0 46 (dk_at dksX1_game_2 1 rfl rfl)
theorem dX1_game_52 : decode cX1_game 52 = .ok (.getfield 269, 3) := dk_180 1 13 (dk_at dksX1_game_2 4 rfl rfl)
theorem dX1_game_55 : decode cX1_game 55 = .ok (.goto 71, 3) := dk_167 0 71 (dk_at dksX1_game_2 7 rfl rfl)
theorem dX1_game_58 : decode cX1_game 58 = .ok (.aload_n 0, 1) := dk_42 (dk_at dksX1_game_2 10 rfl rfl)
theorem dX1_game_59 : decode cX1_game 59 = .ok (.getfield 46, 3) := dk_180 0 46 (dk_at dksX1_game_2 11 rfl rfl)
theorem dX1_game_62 : decode cX1_game 62 = .ok (.getfield 272, 3) := dk_180 1 16 (dk_at dksX1_game_2 14 rfl rfl)
theorem dX1_game_65 : decode cX1_game 65 = .ok (.goto 61, 3) := dk_167 0 61 (dk_at dksX1_game_2 17 rfl rfl)
theorem dX1_game_68 : decode cX1_game 68 = .ok (.aload_n 0, 1) := dk_42 (dk_at dksX1_game_2 20 rfl rfl)
theorem dX1_game_69 : decode cX1_game 69 = .ok (.getfield 46, 3) := dk_180 0 46 (dk_at dksX1_game_2 21 rfl rfl)
theorem dX1_game_72 : decode cX1_game 72 = .ok (.aload_n 0, 1) := dk_42 (dk_at dksX1_game_3 0 rfl rfl)
theorem dX1_game_73 : decode cX1_game 73 = .ok (.getfield 46, 3) := dk_180 0 46 (dk_at dksX1_game_3 1 rfl rfl)
theorem dX1_game_76 : decode cX1_game 76 = .ok (.invokevirtual 275, 3) := dk_182 1 19 (dk_at dksX1_game_3 4 rfl rfl)
theorem dX1_game_79 : decode cX1_game 79 = .ok (.invokevirtual 278, 3) := dk_182 1 22 (dk_at dksX1_game_3 7 rfl rfl)
theorem dX1_game_82 : decode cX1_game 82 = .ok (.goto 44, 3) := dk_167 0 44 (dk_at dksX1_game_3 10 rfl rfl)
theorem dX1_game_85 : decode cX1_game 85 = .ok (.aload_n 0, 1) := dk_42 (dk_at dksX1_game_3 13 rfl rfl)
theorem dX1_game_86 : decode cX1_game 86 = .ok (.getfield 46, 3) := dk_180 0 46 (dk_at dksX1_game_3 14 rfl rfl)
theorem dX1_game_89 : decode cX1_game 89 = .ok (.invokevirtual 280, 3) := dk_182 1 24 (dk_at dksX1_game_3 17 rfl rfl)
theorem dX1_game_92 : decode cX1_game 92 = .ok (.goto 34, 3) := dk_167 0 34 (dk_at dksX1_game_3 20 rfl rfl)
theorem dX1_game_95 : decode cX1_game 95 = .ok (.aload_n 0, 1) := dk_42 (dk_at dksX1_game_3 23 rfl rfl)
theorem dX1_game_96 : decode cX1_game 96 = .ok (.getfield 46, 3) := dk_180 0 46 (dk_at dksX1_game_4 0 rfl rfl)
theorem dX1_game_99 : decode cX1_game 99 = .ok (.invokevirtual 283, 3) := dk_182 1 27 (dk_at dksX1_game_4 3 rfl rfl)
theorem dX1_game_102 : decode cX1_game 102 = .ok (.ifCond .eq 7, 3) := dk_153 0 7 (dk_at dksX1_game_4 6 rfl rfl)
theorem dX1_game_105 : decode cX1_game 105 = .ok (.iconst (-1), 1) := dk_2 (dk_at dksX1_game_4 9 rfl rfl)
theorem dX1_game_106 : decode cX1_game 106 = .ok (.goto 20, 3) := dk_167 0 20 (dk_at dksX1_game_4 10 rfl rfl)
theorem dX1_game_109 : decode cX1_game 109 = .ok (.aload_n 0, 1) := dk_42 (dk_at dksX1_game_4 13 rfl rfl)
theorem dX1_game_110 : decode cX1_game 110 = .ok (.getfield 46, 3) := dk_180 0 46 (dk_at dksX1_game_4 14 rfl rfl)
theorem dX1_game_113 : decode cX1_game 113 = .ok (.getfield 287, 3) := dk_180 1 31 (dk_at dksX1_game_4 17 rfl rfl)
theorem dX1_game_116 : decode cX1_game 116 = .ok (.goto 10, 3) := dk_167 0 10 (dk_at dksX1_game_4 20 rfl rfl)
theorem dX1_game_119 : decode cX1_game 119 = .ok (.aload_n 0, 1) := dk_42 (dk_at dksX1_game_4 23 rfl rfl)
theorem dX1_game_120 : decode cX1_game 120 = .ok (.getfield 46, 3) := dk_180 0 46 (dk_at dksX1_game_5 0 rfl rfl)
theorem dX1_game_123 : decode cX1_game 123 = .ok (.getfield 290, 3) := dk_180 1 34 (dk_at dksX1_game_5 3 rfl rfl)
theorem dX1_game_126 : decode cX1_game 126 = .ok (.ireturn, 1) := dk_172 (dk_at dksX1_game_5 6 rfl rfl)
/-- PackingDuel.game(I)I -/
def zb66 (G : zPg) (C : zO) (args : List Value) (Q : zQ) (Y : zY) (σ : zS) : Prop := ∃ (a0 : Nat) (x1 : Int32), args = [.ref a0, .int x1] ∧ (zcl C 48 [.long x1.toInt64, .long (0 : Int64), .long (5 : Int64)] Y σ (zqI (fun v1 s2 => zcl C 54 [.int v1] Y s2 (zqV (fun s5 => zJ (fun (p7 : Int32) (s8 : zS) => Q (some (.int p7)) s8) (fun (j9 : Int32 → zS → Prop) => (x1.toInt < (0) ∨ (4) < x1.toInt → zgR s5 (some a0) 0 0 (fun v12 => zgI s5 v12 1 10 (fun v18 => j9 v18 s5))) ∧ (x1 = (0) → zgR s5 (some a0) 0 0 (fun v24 => zgI s5 v24 1 6 (fun v30 => j9 v30 s5))) ∧ (x1 = (1) → zgR s5 (some a0) 0 0 (fun v36 => zgI s5 v36 1 7 (fun v42 => j9 v42 s5))) ∧ (x1 = (2) → zgR s5 (some a0) 0 0 (fun v48 => zgR s5 (some a0) 0 0 (fun v54 => zrc s5 v54 1 (fun a63 => zcl C 99 [.ref a63] Y s5 (zqI (fun v60 s61 => zrc s61 v48 1 (fun a70 => zcl C 86 [.ref a70, .int v60] Y s61 (zqI (fun v67 s68 => j9 v67 s68))))))))) ∧ (x1 = (3) → zgR s5 (some a0) 0 0 (fun v74 => zrc s5 v74 1 (fun a83 => zcl C 97 [.ref a83] Y s5 (zqI (fun v80 s81 => j9 v80 s81))))) ∧ (x1 = (4) → zgR s5 (some a0) 0 0 (fun v87 => zrc s5 v87 1 (fun a96 => zcl C 101 [.ref a96] Y s5 (zqI (fun v93 s94 => ((v93 = 0) → zgR s94 (some a0) 0 0 (fun v101 => zgI s94 v101 1 8 (fun v107 => j9 v107 s94))) ∧ ((¬ v93 = 0) → j9 (-1 : Int32) s94))))))))))))
set_option maxHeartbeats 4000000 in
theorem wk66 {l : Launch} {g : zG} {d : Nat} {C : zO} (hG : zGk g) (hC : zSound l g d C) {args : List Value} {Q : zQ} {Y : zY} {σ : zS} (hw : zb66 (zpg g) C args Q Y σ) : zMet l g (d + 1) (⟨"PackingDuel", "game", "(I)I"⟩, Cond.code ⟨"PackingDuel", "game", "(I)I"⟩ prog_1_method_33_code 2 (Option.some FieldType.int)) args σ Q Y := by
  obtain ⟨a0, x1, rfl, hw⟩ := hw
  refine zof hG (by decide +kernel) [false, false] ⟨rfl, rfl, trivial⟩ (Nat.le_of_ble_eq_true rfl) (ls := [some (va_rf (some a0)), some (.int x1)]) rfl ?_
  intro X hX hR hTb hd1 hd2 hl hg hnm
  subst hl
  subst hg
  have hd : zDep X d := ⟨hd1, hd2⟩
  refine z_iload_n hX dX1_game_0 rfl (i := 1) rfl ?_
  refine z_i2l hX dX1_game_1 ?_
  refine z_lconst hX (v := (0 : Int64)) dX1_game_2 (by decide) ?_
  refine z_ldc2 hX dX1_game_3 q2049 ?_
  refine z_invS hX hd dX1_game_6 (hC 48 _ zm48 _ _ _ _ hw) q1014 q1015 zh1 q1016 q130 zn48 rfl (Nat.le_of_ble_eq_true rfl) (st := []) rfl (zcs8 (Nat.le_of_ble_eq_true rfl)) rfl (zkI (fun v1 s2 hw => ?_)) (zout hX hR hTb)
  refine z_invS hX hd dX1_game_9 (hC 54 _ zm54 _ _ _ _ hw) q1640 q1641 zh1 q1642 q130 zn54 rfl (Nat.le_of_ble_eq_true rfl) (st := []) rfl (zcs8 (Nat.le_of_ble_eq_true rfl)) rfl (zkV (fun s5 hw => ?_)) (zout hX hR hTb)
  refine z_iload_n hX dX1_game_12 rfl (i := 1) rfl ?_
  refine zJ_w (P := fun (j : Int32 → zS → Prop) => ∀ (p7 : Int32) (s8 : zS), j p7 s8 → zW X s8 126 [none, none] [.int p7]) hw (fun p7 s8 hw => ?_) (fun j9 hj9 hw => ?_)
  · exact z_ireturn hX hR dX1_game_126 rfl hw
  · rcases zsw x1 0 5 (by decide) (by decide) with c10 | ⟨j11, hj11, c10⟩
    · have c10 : x1.toInt < (0) ∨ (4) < x1.toInt := by omega
      refine z_tableOut hX dX1_game_13 c10 (tgt := 119) rfl ?_
      have hw := hw.1 c10
      refine z_aload_n hX dX1_game_119 rfl (i := 0) rfl ?_
      obtain ⟨a13, f14, v12, r15, m16, e17, hw⟩ := hw
      refine z_get hX zc0 (k := 0) dX1_game_120 (Nat.le_of_ble_eq_true rfl) (zlk hX q307) r15 m16 e17 ?_
      obtain ⟨a19, f20, v18, r21, m22, e23, hw⟩ := hw
      refine z_get hX zc1 (k := 10) dX1_game_123 (Nat.le_of_ble_eq_true rfl) (zlkN hX "PackingDuel" q252) r21 m22 e23 ?_
      refine z_sub (ls' := [none, none]) (zsN (zsN (zs0))) ?_
      exact hj9 _ _ hw
    · match j11, hj11, c10 with
      | 0, _, c10 =>
        have c10 : x1 = (0) := c10
        refine z_tableIn hX dX1_game_13 (by rw [c10]; decide) (by rw [c10]; decide) (off := 35) (by rw [c10]; rfl) (tgt := 48) rfl ?_
        have hw := hw.2.1 c10
        refine z_aload_n hX dX1_game_48 rfl (i := 0) rfl ?_
        obtain ⟨a25, f26, v24, r27, m28, e29, hw⟩ := hw
        refine z_get hX zc0 (k := 0) dX1_game_49 (Nat.le_of_ble_eq_true rfl) (zlk hX q307) r27 m28 e29 ?_
        obtain ⟨a31, f32, v30, r33, m34, e35, hw⟩ := hw
        refine z_get hX zc1 (k := 6) dX1_game_52 (Nat.le_of_ble_eq_true rfl) (zlkN hX "PackingDuel" q245) r33 m34 e35 ?_
        refine z_goto hX dX1_game_55 (tgt := 126) rfl ?_
        refine z_sub (ls' := [none, none]) (zsN (zsN (zs0))) ?_
        exact hj9 _ _ hw
      | 1, _, c10 =>
        have c10 : x1 = (1) := c10
        refine z_tableIn hX dX1_game_13 (by rw [c10]; decide) (by rw [c10]; decide) (off := 45) (by rw [c10]; rfl) (tgt := 58) rfl ?_
        have hw := hw.2.2.1 c10
        refine z_aload_n hX dX1_game_58 rfl (i := 0) rfl ?_
        obtain ⟨a37, f38, v36, r39, m40, e41, hw⟩ := hw
        refine z_get hX zc0 (k := 0) dX1_game_59 (Nat.le_of_ble_eq_true rfl) (zlk hX q307) r39 m40 e41 ?_
        obtain ⟨a43, f44, v42, r45, m46, e47, hw⟩ := hw
        refine z_get hX zc1 (k := 7) dX1_game_62 (Nat.le_of_ble_eq_true rfl) (zlkN hX "PackingDuel" q247) r45 m46 e47 ?_
        refine z_goto hX dX1_game_65 (tgt := 126) rfl ?_
        refine z_sub (ls' := [none, none]) (zsN (zsN (zs0))) ?_
        exact hj9 _ _ hw
      | 2, _, c10 =>
        have c10 : x1 = (2) := c10
        refine z_tableIn hX dX1_game_13 (by rw [c10]; decide) (by rw [c10]; decide) (off := 55) (by rw [c10]; rfl) (tgt := 68) rfl ?_
        have hw := hw.2.2.2.1 c10
        refine z_aload_n hX dX1_game_68 rfl (i := 0) rfl ?_
        obtain ⟨a49, f50, v48, r51, m52, e53, hw⟩ := hw
        refine z_get hX zc0 (k := 0) dX1_game_69 (Nat.le_of_ble_eq_true rfl) (zlk hX q307) r51 m52 e53 ?_
        refine z_aload_n hX dX1_game_72 rfl (i := 0) rfl ?_
        obtain ⟨a55, f56, v54, r57, m58, e59, hw⟩ := hw
        refine z_get hX zc0 (k := 0) dX1_game_73 (Nat.le_of_ble_eq_true rfl) (zlk hX q307) r57 m58 e59 ?_
        obtain ⟨a63, f64, r65, m66, hw⟩ := hw
        refine z_invV hX hd r65 (ci := 1) rfl rfl m66 dX1_game_76 (hC 99 _ zm99 _ _ _ _ hw) q2050 q673 q674 zh2 q675 q131 zn99 rfl (Nat.le_of_ble_eq_true rfl) (st := [va_rf v48]) rfl (zcs8 (Nat.le_of_ble_eq_true rfl)) rfl (zkI (fun v60 s61 hw => ?_)) (zout hX hR hTb)
        obtain ⟨a70, f71, r72, m73, hw⟩ := hw
        refine z_invV hX hd r72 (ci := 1) rfl rfl m73 dX1_game_79 (hC 86 _ zm86 _ _ _ _ hw) q2051 q412 q413 zh2 q414 q131 zn86 rfl (Nat.le_of_ble_eq_true rfl) (st := []) rfl (zcs8 (Nat.le_of_ble_eq_true rfl)) rfl (zkI (fun v67 s68 hw => ?_)) (zout hX hR hTb)
        refine z_goto hX dX1_game_82 (tgt := 126) rfl ?_
        refine z_sub (ls' := [none, none]) (zsN (zsN (zs0))) ?_
        exact hj9 _ _ hw
      | 3, _, c10 =>
        have c10 : x1 = (3) := c10
        refine z_tableIn hX dX1_game_13 (by rw [c10]; decide) (by rw [c10]; decide) (off := 72) (by rw [c10]; rfl) (tgt := 85) rfl ?_
        have hw := hw.2.2.2.2.1 c10
        refine z_aload_n hX dX1_game_85 rfl (i := 0) rfl ?_
        obtain ⟨a75, f76, v74, r77, m78, e79, hw⟩ := hw
        refine z_get hX zc0 (k := 0) dX1_game_86 (Nat.le_of_ble_eq_true rfl) (zlk hX q307) r77 m78 e79 ?_
        obtain ⟨a83, f84, r85, m86, hw⟩ := hw
        refine z_invV hX hd r85 (ci := 1) rfl rfl m86 dX1_game_89 (hC 97 _ zm97 _ _ _ _ hw) q2052 q646 q647 zh2 q648 q131 zn97 rfl (Nat.le_of_ble_eq_true rfl) (st := []) rfl (zcs8 (Nat.le_of_ble_eq_true rfl)) rfl (zkI (fun v80 s81 hw => ?_)) (zout hX hR hTb)
        refine z_goto hX dX1_game_92 (tgt := 126) rfl ?_
        refine z_sub (ls' := [none, none]) (zsN (zsN (zs0))) ?_
        exact hj9 _ _ hw
      | 4, _, c10 =>
        have c10 : x1 = (4) := c10
        refine z_tableIn hX dX1_game_13 (by rw [c10]; decide) (by rw [c10]; decide) (off := 82) (by rw [c10]; rfl) (tgt := 95) rfl ?_
        have hw := hw.2.2.2.2.2 c10
        refine z_aload_n hX dX1_game_95 rfl (i := 0) rfl ?_
        obtain ⟨a88, f89, v87, r90, m91, e92, hw⟩ := hw
        refine z_get hX zc0 (k := 0) dX1_game_96 (Nat.le_of_ble_eq_true rfl) (zlk hX q307) r90 m91 e92 ?_
        obtain ⟨a96, f97, r98, m99, hw⟩ := hw
        refine z_invV hX hd r98 (ci := 1) rfl rfl m99 dX1_game_99 (hC 101 _ zm101 _ _ _ _ hw) q949 q722 q723 zh2 q724 q131 zn101 rfl (Nat.le_of_ble_eq_true rfl) (st := []) rfl (zcs8 (Nat.le_of_ble_eq_true rfl)) rfl (zkI (fun v93 s94 hw => ?_)) (zout hX hR hTb)
        refine z_if_eq hX dX1_game_102 (tgt := 109) rfl (fun c100 => ?_) (fun c100 => ?_)
        · have hw := hw.1 c100
          refine z_aload_n hX dX1_game_109 rfl (i := 0) rfl ?_
          obtain ⟨a102, f103, v101, r104, m105, e106, hw⟩ := hw
          refine z_get hX zc0 (k := 0) dX1_game_110 (Nat.le_of_ble_eq_true rfl) (zlk hX q307) r104 m105 e106 ?_
          obtain ⟨a108, f109, v107, r110, m111, e112, hw⟩ := hw
          refine z_get hX zc1 (k := 8) dX1_game_113 (Nat.le_of_ble_eq_true rfl) (zlkN hX "PackingDuel" q249) r110 m111 e112 ?_
          refine z_goto hX dX1_game_116 (tgt := 126) rfl ?_
          refine z_sub (ls' := [none, none]) (zsN (zsN (zs0))) ?_
          exact hj9 _ _ hw
        · have hw := hw.2 c100
          refine z_iconst hX (v := (-1 : Int32)) dX1_game_105 (by decide) ?_
          refine z_goto hX dX1_game_106 (tgt := 126) rfl ?_
          refine z_sub (ls' := [none, none]) (zsN (zsN (zs0))) ?_
          exact hj9 _ _ hw
      | j11 + 5, h, _ => exact absurd h (by omega)
abbrev cX1_reason : ByteArray := prog_1_method_34_code
def yX1_reason : MethodName := ⟨RX1, "reason", "(I)I"⟩
def dkwX1_reason_0 : List UInt8 := [42, 27, 182, 0, 166, 42, 180, 0, 46, 27, 182, 1, 37, 172]
abbrev dktX1_reason_0 : List UInt8 := dkwX1_reason_0 ++ []
theorem dksX1_reason_0 : cX1_reason.data.toList.drop 0 = dktX1_reason_0 := by decide +kernel
theorem dX1_reason_0 : decode cX1_reason 0 = .ok (.aload_n 0, 1) := dk_42 (dk_at dksX1_reason_0 0 rfl rfl)
theorem dX1_reason_1 : decode cX1_reason 1 = .ok (.iload_n 1, 1) := dk_27 (dk_at dksX1_reason_0 1 rfl rfl)
theorem dX1_reason_2 : decode cX1_reason 2 = .ok (.invokevirtual 166, 3) := dk_182 0 166 (dk_at dksX1_reason_0 2 rfl rfl)
theorem dX1_reason_5 : decode cX1_reason 5 = .ok (.aload_n 0, 1) := dk_42 (dk_at dksX1_reason_0 5 rfl rfl)
theorem dX1_reason_6 : decode cX1_reason 6 = .ok (.getfield 46, 3) := dk_180 0 46 (dk_at dksX1_reason_0 6 rfl rfl)
theorem dX1_reason_9 : decode cX1_reason 9 = .ok (.iload_n 1, 1) := dk_27 (dk_at dksX1_reason_0 9 rfl rfl)
theorem dX1_reason_10 : decode cX1_reason 10 = .ok (.invokevirtual 293, 3) := dk_182 1 37 (dk_at dksX1_reason_0 10 rfl rfl)
theorem dX1_reason_13 : decode cX1_reason 13 = .ok (.ireturn, 1) := dk_172 (dk_at dksX1_reason_0 13 rfl rfl)
/-- PackingDuel.reason(I)I -/
def zb67 (G : zPg) (C : zO) (args : List Value) (Q : zQ) (Y : zY) (σ : zS) : Prop := ∃ (a0 : Nat) (x1 : Int32), args = [.ref a0, .int x1] ∧ (zrc σ (some a0) 0 (fun a4 => zcl C 56 [.ref a4, .int x1] Y σ (zqV (fun s2 => zgR s2 (some a0) 0 0 (fun v8 => zrc s2 v8 1 (fun a17 => zcl C 111 [.ref a17, .int x1] Y s2 (zqI (fun v14 s15 => Q (some (.int v14)) s15))))))))
set_option maxHeartbeats 4000000 in
theorem wk67 {l : Launch} {g : zG} {d : Nat} {C : zO} (hG : zGk g) (hC : zSound l g d C) {args : List Value} {Q : zQ} {Y : zY} {σ : zS} (hw : zb67 (zpg g) C args Q Y σ) : zMet l g (d + 1) (⟨"PackingDuel", "reason", "(I)I"⟩, Cond.code ⟨"PackingDuel", "reason", "(I)I"⟩ prog_1_method_34_code 2 (Option.some FieldType.int)) args σ Q Y := by
  obtain ⟨a0, x1, rfl, hw⟩ := hw
  refine zof hG (by decide +kernel) [false, false] ⟨rfl, rfl, trivial⟩ (Nat.le_of_ble_eq_true rfl) (ls := [some (va_rf (some a0)), some (.int x1)]) rfl ?_
  intro X hX hR hTb hd1 hd2 hl hg hnm
  subst hl
  subst hg
  have hd : zDep X d := ⟨hd1, hd2⟩
  refine z_aload_n hX dX1_reason_0 rfl (i := 0) rfl ?_
  refine z_iload_n hX dX1_reason_1 rfl (i := 1) rfl ?_
  obtain ⟨a4, f5, r6, m7, hw⟩ := hw
  refine z_invV hX hd r6 (ci := 0) rfl rfl m7 dX1_reason_2 (hC 56 _ zm56 _ _ _ _ hw) q1652 q1654 qs25 zh1 q1655 q130 zn56 rfl (Nat.le_of_ble_eq_true rfl) (st := []) rfl (zcs8 (Nat.le_of_ble_eq_true rfl)) rfl (zkV (fun s2 hw => ?_)) (zout hX hR hTb)
  refine z_aload_n hX dX1_reason_5 rfl (i := 0) rfl ?_
  obtain ⟨a9, f10, v8, r11, m12, e13, hw⟩ := hw
  refine z_get hX zc0 (k := 0) dX1_reason_6 (Nat.le_of_ble_eq_true rfl) (zlk hX q307) r11 m12 e13 ?_
  refine z_iload_n hX dX1_reason_9 rfl (i := 1) rfl ?_
  obtain ⟨a17, f18, r19, m20, hw⟩ := hw
  refine z_invV hX hd r19 (ci := 1) rfl rfl m20 dX1_reason_10 (hC 111 _ zm111 _ _ _ _ hw) q2060 q2061 q2062 zh2 q2063 q131 zn111 rfl (Nat.le_of_ble_eq_true rfl) (st := []) rfl (zcs8 (Nat.le_of_ble_eq_true rfl)) rfl (zkI (fun v14 s15 hw => ?_)) (zout hX hR hTb)
  exact z_ireturn hX hR dX1_reason_13 rfl hw
abbrev cX1_setItem : ByteArray := prog_1_method_41_code
def yX1_setItem : MethodName := ⟨RX1, "setItem", "(III)I"⟩
def dkwX1_setItem_4 : List UInt8 := [25, 5, 182, 1, 81, 21, 4, 172]
abbrev dktX1_setItem_4 : List UInt8 := dkwX1_setItem_4 ++ []
def dkwX1_setItem_3 : List UInt8 := [27, 25, 5, 180, 0, 123, 27, 182, 0, 210, 192, 1, 72, 28, 29, 182, 1, 74, 182, 1, 78, 87, 42]
abbrev dktX1_setItem_3 : List UInt8 := dkwX1_setItem_3 ++ dktX1_setItem_4
def dkwX1_setItem_2 : List UInt8 := [180, 0, 46, 27, 28, 182, 0, 171, 54, 4, 42, 180, 0, 46, 182, 1, 69, 58, 5, 25, 5, 180, 0, 123]
abbrev dktX1_setItem_2 : List UInt8 := dkwX1_setItem_2 ++ dktX1_setItem_3
def dkwX1_setItem_1 : List UInt8 := [20, 1, 65, 184, 0, 84, 167, 0, 12, 29, 133, 9, 20, 1, 67, 184, 0, 84, 184, 0, 88, 42]
abbrev dktX1_setItem_1 : List UInt8 := dkwX1_setItem_1 ++ dktX1_setItem_2
def dkwX1_setItem_0 : List UInt8 := [42, 27, 182, 0, 166, 28, 133, 9, 20, 0, 169, 184, 0, 84, 184, 0, 133, 28, 154, 0, 15, 29, 133, 10]
abbrev dktX1_setItem_0 : List UInt8 := dkwX1_setItem_0 ++ dktX1_setItem_1
theorem dksX1_setItem_0 : cX1_setItem.data.toList.drop 0 = dktX1_setItem_0 := by decide +kernel
theorem dksX1_setItem_1 : cX1_setItem.data.toList.drop 24 = dktX1_setItem_1 := dk_seg dksX1_setItem_0 24 rfl rfl
theorem dksX1_setItem_2 : cX1_setItem.data.toList.drop 46 = dktX1_setItem_2 := dk_seg dksX1_setItem_1 22 rfl rfl
theorem dksX1_setItem_3 : cX1_setItem.data.toList.drop 70 = dktX1_setItem_3 := dk_seg dksX1_setItem_2 24 rfl rfl
theorem dksX1_setItem_4 : cX1_setItem.data.toList.drop 93 = dktX1_setItem_4 := dk_seg dksX1_setItem_3 23 rfl rfl
theorem dX1_setItem_0 : decode cX1_setItem 0 = .ok (.aload_n 0, 1) := dk_42 (dk_at dksX1_setItem_0 0 rfl rfl)
theorem dX1_setItem_1 : decode cX1_setItem 1 = .ok (.iload_n 1, 1) := dk_27 (dk_at dksX1_setItem_0 1 rfl rfl)
theorem dX1_setItem_2 : decode cX1_setItem 2 = .ok (.invokevirtual 166, 3) := dk_182 0 166 (dk_at dksX1_setItem_0 2 rfl rfl)
theorem dX1_setItem_5 : decode cX1_setItem 5 = .ok (.iload_n 2, 1) := dk_28 (dk_at dksX1_setItem_0 5 rfl rfl)
theorem dX1_setItem_6 : decode cX1_setItem 6 = .ok (.i2l, 1) := dk_133 (dk_at dksX1_setItem_0 6 rfl rfl)
theorem dX1_setItem_7 : decode cX1_setItem 7 = .ok (.lconst 0, 1) := dk_9 (dk_at dksX1_setItem_0 7 rfl rfl)
theorem dX1_setItem_8 : decode cX1_setItem 8 = .ok (.ldc2_w 169, 3) := dk_20 0 169 (dk_at dksX1_setItem_0 8 rfl rfl)
theorem dX1_setItem_11 : decode cX1_setItem 11 = .ok (.invokestatic 84, 3) := dk_184 0 84 (dk_at dksX1_setItem_0 11 rfl rfl)
theorem dX1_setItem_14 : decode cX1_setItem 14 = .ok (.invokestatic 133, 3) := dk_184 0 133 (dk_at dksX1_setItem_0 14 rfl rfl)
theorem dX1_setItem_17 : decode cX1_setItem 17 = .ok (.iload_n 2, 1) := dk_28 (dk_at dksX1_setItem_0 17 rfl rfl)
theorem dX1_setItem_18 : decode cX1_setItem 18 = .ok (.ifCond .ne 15, 3) := dk_154 0 15 (dk_at dksX1_setItem_0 18 rfl rfl)
theorem dX1_setItem_21 : decode cX1_setItem 21 = .ok (.iload_n 3, 1) := dk_29 (dk_at dksX1_setItem_0 21 rfl rfl)
theorem dX1_setItem_22 : decode cX1_setItem 22 = .ok (.i2l, 1) := dk_133 (dk_at dksX1_setItem_0 22 rfl rfl)
theorem dX1_setItem_23 : decode cX1_setItem 23 = .ok (.lconst 1, 1) := dk_10 (dk_at dksX1_setItem_0 23 rfl rfl)
theorem dX1_setItem_24 : decode cX1_setItem 24 = .ok (.ldc2_w 321, 3) := dk_20 1 65 (dk_at dksX1_setItem_1 0 rfl rfl)
theorem dX1_setItem_27 : decode cX1_setItem 27 = .ok (.invokestatic 84, 3) := dk_184 0 84 (dk_at dksX1_setItem_1 3 rfl rfl)
theorem dX1_setItem_30 : decode cX1_setItem 30 = .ok (.goto 12, 3) := dk_167 0 12 (dk_at dksX1_setItem_1 6 rfl rfl)
theorem dX1_setItem_33 : decode cX1_setItem 33 = .ok (.iload_n 3, 1) := dk_29 (dk_at dksX1_setItem_1 9 rfl rfl)
theorem dX1_setItem_34 : decode cX1_setItem 34 = .ok (.i2l, 1) := dk_133 (dk_at dksX1_setItem_1 10 rfl rfl)
theorem dX1_setItem_35 : decode cX1_setItem 35 = .ok (.lconst 0, 1) := dk_9 (dk_at dksX1_setItem_1 11 rfl rfl)
theorem dX1_setItem_36 : decode cX1_setItem 36 = .ok (.ldc2_w 323, 3) := dk_20 1 67 (dk_at dksX1_setItem_1 12 rfl rfl)
theorem dX1_setItem_39 : decode cX1_setItem 39 = .ok (.invokestatic 84, 3) := dk_184 0 84 (dk_at dksX1_setItem_1 15 rfl rfl)
theorem dX1_setItem_42 : decode cX1_setItem 42 = .ok (.invokestatic 88, 3) := dk_184 0 88 (dk_at dksX1_setItem_1 18 rfl rfl)
theorem dX1_setItem_45 : decode cX1_setItem 45 = .ok (.aload_n 0, 1) := dk_42 (dk_at dksX1_setItem_1 21 rfl rfl)
theorem dX1_setItem_46 : decode cX1_setItem 46 = .ok (.getfield 46, 3) := dk_180 0 46 (dk_at dksX1_setItem_2 0 rfl rfl)
theorem dX1_setItem_49 : decode cX1_setItem 49 = .ok (.iload_n 1, 1) := dk_27 (dk_at dksX1_setItem_2 3 rfl rfl)
theorem dX1_setItem_50 : decode cX1_setItem 50 = .ok (.iload_n 2, 1) := dk_28 (dk_at dksX1_setItem_2 4 rfl rfl)
theorem dX1_setItem_51 : decode cX1_setItem 51 = .ok (.invokevirtual 171, 3) := dk_182 0 171 (dk_at dksX1_setItem_2 5 rfl rfl)
theorem dX1_setItem_54 : decode cX1_setItem 54 = .ok (.istore 4, 2) := dk_54 4 (dk_at dksX1_setItem_2 8 rfl rfl)
theorem dX1_setItem_56 : decode cX1_setItem 56 = .ok (.aload_n 0, 1) := dk_42 (dk_at dksX1_setItem_2 10 rfl rfl)
theorem dX1_setItem_57 : decode cX1_setItem 57 = .ok (.getfield 46, 3) := dk_180 0 46 (dk_at dksX1_setItem_2 11 rfl rfl)
theorem dX1_setItem_60 : decode cX1_setItem 60 = .ok (.invokevirtual 325, 3) := dk_182 1 69 (dk_at dksX1_setItem_2 14 rfl rfl)
theorem dX1_setItem_63 : decode cX1_setItem 63 = .ok (.astore 5, 2) := dk_58 5 (dk_at dksX1_setItem_2 17 rfl rfl)
theorem dX1_setItem_65 : decode cX1_setItem 65 = .ok (.aload 5, 2) := dk_25 5 (dk_at dksX1_setItem_2 19 rfl rfl)
theorem dX1_setItem_67 : decode cX1_setItem 67 = .ok (.getfield 123, 3) := dk_180 0 123 (dk_at dksX1_setItem_2 21 rfl rfl)
theorem dX1_setItem_70 : decode cX1_setItem 70 = .ok (.iload_n 1, 1) := dk_27 (dk_at dksX1_setItem_3 0 rfl rfl)
theorem dX1_setItem_71 : decode cX1_setItem 71 = .ok (.aload 5, 2) := dk_25 5 (dk_at dksX1_setItem_3 1 rfl rfl)
theorem dX1_setItem_73 : decode cX1_setItem 73 = .ok (.getfield 123, 3) := dk_180 0 123 (dk_at dksX1_setItem_3 3 rfl rfl)
theorem dX1_setItem_76 : decode cX1_setItem 76 = .ok (.iload_n 1, 1) := dk_27 (dk_at dksX1_setItem_3 6 rfl rfl)
theorem dX1_setItem_77 : decode cX1_setItem 77 = .ok (.invokevirtual 210, 3) := dk_182 0 210 (dk_at dksX1_setItem_3 7 rfl rfl)
theorem dX1_setItem_80 : decode cX1_setItem 80 = .ok (.checkcast 328, 3) := dk_192 1 72 (dk_at dksX1_setItem_3 10 rfl rfl)
theorem dX1_setItem_83 : decode cX1_setItem 83 = .ok (.iload_n 2, 1) := dk_28 (dk_at dksX1_setItem_3 13 rfl rfl)
theorem dX1_setItem_84 : decode cX1_setItem 84 = .ok (.iload_n 3, 1) := dk_29 (dk_at dksX1_setItem_3 14 rfl rfl)
theorem dX1_setItem_85 : decode cX1_setItem 85 = .ok (.invokevirtual 330, 3) := dk_182 1 74 (dk_at dksX1_setItem_3 15 rfl rfl)
theorem dX1_setItem_88 : decode cX1_setItem 88 = .ok (.invokevirtual 334, 3) := dk_182 1 78 (dk_at dksX1_setItem_3 18 rfl rfl)
theorem dX1_setItem_91 : decode cX1_setItem 91 = .ok (.pop, 1) := dk_87 (dk_at dksX1_setItem_3 21 rfl rfl)
theorem dX1_setItem_92 : decode cX1_setItem 92 = .ok (.aload_n 0, 1) := dk_42 (dk_at dksX1_setItem_3 22 rfl rfl)
theorem dX1_setItem_93 : decode cX1_setItem 93 = .ok (.aload 5, 2) := dk_25 5 (dk_at dksX1_setItem_4 0 rfl rfl)
theorem dX1_setItem_95 : decode cX1_setItem 95 = .ok (.invokevirtual 337, 3) := dk_182 1 81 (dk_at dksX1_setItem_4 2 rfl rfl)
theorem dX1_setItem_98 : decode cX1_setItem 98 = .ok (.iload 4, 2) := dk_21 4 (dk_at dksX1_setItem_4 5 rfl rfl)
theorem dX1_setItem_100 : decode cX1_setItem 100 = .ok (.ireturn, 1) := dk_172 (dk_at dksX1_setItem_4 7 rfl rfl)
/-- PackingDuel.setItem(III)I -/
def zb68 (G : zPg) (C : zO) (args : List Value) (Q : zQ) (Y : zY) (σ : zS) : Prop := ∃ (a0 : Nat) (x1 : Int32) (x2 : Int32) (x3 : Int32), args = [.ref a0, .int x1, .int x2, .int x3] ∧ (zrc σ (some a0) 0 (fun a4 => zcl C 56 [.ref a4, .int x1] Y σ (zqV (fun s2 => zcl C 48 [.long x2.toInt64, .long (0 : Int64), .long (3 : Int64)] Y s2 (zqI (fun v8 s9 => zcl C 54 [.int v8] Y s9 (zqV (fun s12 => zJ (fun (p14 : Int32) (s15 : zS) => zcl C 51 [.int p14] Y s15 (zqV (fun s18 => zgR s18 (some a0) 0 0 (fun v20 => zrc s18 v20 1 (fun a29 => zcl C 94 [.ref a29, .int x1, .int x2] Y s18 (zqI (fun v26 s27 => zgR s27 (some a0) 0 0 (fun v33 => zrc s27 v33 1 (fun a42 => zcl C 105 [.ref a42] Y s27 (zqR (fun v39 s40 => zgR s40 v39 1 0 (fun v46 => zgR s40 v39 1 0 (fun v52 => zrc s40 v52 2 (fun a61 => zcl C 129 [.ref a61, .int x1] Y s40 (zqR (fun v58 s59 => (zcst s59 v58 [12] ∧ zrc s59 v58 12 (fun a68 => zcl C 447 [.ref a68, .int x2, .int x3] Y s59 (zqR (fun v65 s66 => zrc s66 v46 2 (fun a75 => zcl C 135 [.ref a75, .int x1, va_rf v65] Y s66 (zqR (fun v72 s73 => zrc s73 (some a0) 0 (fun a82 => zcl C 69 [.ref a82, va_rf v39] Y s73 (zqV (fun s80 => Q (some (.int v26)) s80)))))))))))))))))))))))))) (fun (j16 : Int32 → zS → Prop) => ((¬ x2 = 0) → zcl C 48 [.long x3.toInt64, .long (0 : Int64), .long (99 : Int64)] Y s12 (zqI (fun v87 s88 => j16 v87 s88))) ∧ ((x2 = 0) → zcl C 48 [.long x3.toInt64, .long (1 : Int64), .long (50 : Int64)] Y s12 (zqI (fun v90 s91 => j16 v90 s91))))))))))))
set_option maxHeartbeats 4000000 in
theorem wk68 {l : Launch} {g : zG} {d : Nat} {C : zO} (hG : zGk g) (hC : zSound l g d C) {args : List Value} {Q : zQ} {Y : zY} {σ : zS} (hw : zb68 (zpg g) C args Q Y σ) : zMet l g (d + 1) (⟨"PackingDuel", "setItem", "(III)I"⟩, Cond.code ⟨"PackingDuel", "setItem", "(III)I"⟩ prog_1_method_41_code 6 (Option.some FieldType.int)) args σ Q Y := by
  obtain ⟨a0, x1, x2, x3, rfl, hw⟩ := hw
  refine zof hG (by decide +kernel) [false, false, false, false] ⟨rfl, rfl, rfl, rfl, trivial⟩ (Nat.le_of_ble_eq_true rfl) (ls := [some (va_rf (some a0)), some (.int x1), some (.int x2), some (.int x3), none, none]) rfl ?_
  intro X hX hR hTb hd1 hd2 hl hg hnm
  subst hl
  subst hg
  have hd : zDep X d := ⟨hd1, hd2⟩
  refine z_aload_n hX dX1_setItem_0 rfl (i := 0) rfl ?_
  refine z_iload_n hX dX1_setItem_1 rfl (i := 1) rfl ?_
  obtain ⟨a4, f5, r6, m7, hw⟩ := hw
  refine z_invV hX hd r6 (ci := 0) rfl rfl m7 dX1_setItem_2 (hC 56 _ zm56 _ _ _ _ hw) q1652 q1654 qs25 zh1 q1655 q130 zn56 rfl (Nat.le_of_ble_eq_true rfl) (st := []) rfl (zcs8 (Nat.le_of_ble_eq_true rfl)) rfl (zkV (fun s2 hw => ?_)) (zout hX hR hTb)
  refine z_iload_n hX dX1_setItem_5 rfl (i := 2) rfl ?_
  refine z_i2l hX dX1_setItem_6 ?_
  refine z_lconst hX (v := (0 : Int64)) dX1_setItem_7 (by decide) ?_
  refine z_ldc2 hX dX1_setItem_8 q1656 ?_
  refine z_invS hX hd dX1_setItem_11 (hC 48 _ zm48 _ _ _ _ hw) q1014 q1015 zh1 q1016 q130 zn48 rfl (Nat.le_of_ble_eq_true rfl) (st := []) rfl (zcs8 (Nat.le_of_ble_eq_true rfl)) rfl (zkI (fun v8 s9 hw => ?_)) (zout hX hR hTb)
  refine z_invS hX hd dX1_setItem_14 (hC 54 _ zm54 _ _ _ _ hw) q1640 q1641 zh1 q1642 q130 zn54 rfl (Nat.le_of_ble_eq_true rfl) (st := []) rfl (zcs8 (Nat.le_of_ble_eq_true rfl)) rfl (zkV (fun s12 hw => ?_)) (zout hX hR hTb)
  refine z_iload_n hX dX1_setItem_17 rfl (i := 2) rfl ?_
  refine zJ_w (P := fun (j : Int32 → zS → Prop) => ∀ (p14 : Int32) (s15 : zS), j p14 s15 → zW X s15 42 [some (va_rf (some a0)), some (.int x1), some (.int x2), some (.int x3), none, none] [.int p14]) hw (fun p14 s15 hw => ?_) (fun j16 hj16 hw => ?_)
  · refine z_invS hX hd dX1_setItem_42 (hC 51 _ zm51 _ _ _ _ hw) q1067 q1068 zh1 q1069 q130 zn51 rfl (Nat.le_of_ble_eq_true rfl) (st := []) rfl (zcs8 (Nat.le_of_ble_eq_true rfl)) rfl (zkV (fun s18 hw => ?_)) (zout hX hR hTb)
    refine z_aload_n hX dX1_setItem_45 rfl (i := 0) rfl ?_
    obtain ⟨a21, f22, v20, r23, m24, e25, hw⟩ := hw
    refine z_get hX zc0 (k := 0) dX1_setItem_46 (Nat.le_of_ble_eq_true rfl) (zlk hX q307) r23 m24 e25 ?_
    refine z_iload_n hX dX1_setItem_49 rfl (i := 1) rfl ?_
    refine z_iload_n hX dX1_setItem_50 rfl (i := 2) rfl ?_
    obtain ⟨a29, f30, r31, m32, hw⟩ := hw
    refine z_invV hX hd r31 (ci := 1) rfl rfl m32 dX1_setItem_51 (hC 94 _ zm94 _ _ _ _ hw) q1657 q526 q527 zh2 q528 q131 zn94 rfl (Nat.le_of_ble_eq_true rfl) (st := []) rfl (zcs8 (Nat.le_of_ble_eq_true rfl)) rfl (zkI (fun v26 s27 hw => ?_)) (zout hX hR hTb)
    refine z_istore hX dX1_setItem_54 (i := 4) (Nat.le_of_ble_eq_true rfl) rfl (ls2 := [some (va_rf (some a0)), some (.int x1), some (.int x2), some (.int x3), some (.int v26), none]) rfl ?_
    refine z_aload_n hX dX1_setItem_56 rfl (i := 0) rfl ?_
    obtain ⟨a34, f35, v33, r36, m37, e38, hw⟩ := hw
    refine z_get hX zc0 (k := 0) dX1_setItem_57 (Nat.le_of_ble_eq_true rfl) (zlk hX q307) r36 m37 e38 ?_
    obtain ⟨a42, f43, r44, m45, hw⟩ := hw
    refine z_invV hX hd r44 (ci := 1) rfl rfl m45 dX1_setItem_60 (hC 105 _ zm105 _ _ _ _ hw) q758 q759 q760 zh2 q761 q131 zn105 rfl (Nat.le_of_ble_eq_true rfl) (st := []) rfl (zcs8 (Nat.le_of_ble_eq_true rfl)) rfl (zkR (fun v39 s40 hw => ?_)) (zout hX hR hTb)
    refine z_astore hX dX1_setItem_63 (i := 5) (Nat.le_of_ble_eq_true rfl) rfl (ls2 := [some (va_rf (some a0)), some (.int x1), some (.int x2), some (.int x3), some (.int v26), some (va_rf v39)]) rfl ?_
    refine z_aload hX dX1_setItem_65 (i := 5) rfl ?_
    obtain ⟨a47, f48, v46, r49, m50, e51, hw⟩ := hw
    refine z_get hX zc1 (k := 0) dX1_setItem_67 (Nat.le_of_ble_eq_true rfl) (zlkN hX "PackingDuel" q228) r49 m50 e51 ?_
    refine z_iload_n hX dX1_setItem_70 rfl (i := 1) rfl ?_
    refine z_aload hX dX1_setItem_71 (i := 5) rfl ?_
    obtain ⟨a53, f54, v52, r55, m56, e57, hw⟩ := hw
    refine z_get hX zc1 (k := 0) dX1_setItem_73 (Nat.le_of_ble_eq_true rfl) (zlkN hX "PackingDuel" q228) r55 m56 e57 ?_
    refine z_iload_n hX dX1_setItem_76 rfl (i := 1) rfl ?_
    obtain ⟨a61, f62, r63, m64, hw⟩ := hw
    refine z_invV hX hd r63 (ci := 2) rfl rfl m64 dX1_setItem_77 (hC 129 _ zm129 _ _ _ _ hw) q2024 q372 q373 zh5 q374 q134 zn129 rfl (Nat.le_of_ble_eq_true rfl) (st := [.int x1, va_rf v46]) rfl (zcs8 (Nat.le_of_ble_eq_true rfl)) rfl (zkR (fun v58 s59 hw => ?_)) (zout hX hR hTb)
    refine z_cast hX dX1_setItem_80 q2074 (zfa1 ⟨_, rfl, Or.inl rfl⟩ (zfa0)) hw.1 ?_
    have hw := hw.2
    refine z_iload_n hX dX1_setItem_83 rfl (i := 2) rfl ?_
    refine z_iload_n hX dX1_setItem_84 rfl (i := 3) rfl ?_
    obtain ⟨a68, f69, r70, m71, hw⟩ := hw
    refine z_invV hX hd r70 (ci := 12) rfl rfl m71 dX1_setItem_85 (hC 447 _ zm447 _ _ _ _ hw) q2075 q2076 q2077 zh27 q2078 q158 zn447 rfl (Nat.le_of_ble_eq_true rfl) (st := [.int x1, va_rf v46]) rfl (zcs8 (Nat.le_of_ble_eq_true rfl)) rfl (zkR (fun v65 s66 hw => ?_)) (zout hX hR hTb)
    obtain ⟨a75, f76, r77, m78, hw⟩ := hw
    refine z_invV hX hd r77 (ci := 2) rfl rfl m78 dX1_setItem_88 (hC 135 _ zm135 _ _ _ _ hw) q2086 q2087 q2088 zh5 q2089 q134 zn135 rfl (Nat.le_of_ble_eq_true rfl) (st := []) rfl (zcs8 (Nat.le_of_ble_eq_true rfl)) rfl (zkR (fun v72 s73 hw => ?_)) (zout hX hR hTb)
    refine z_pop hX dX1_setItem_91 (zc_rf _) ?_
    refine z_aload_n hX dX1_setItem_92 rfl (i := 0) rfl ?_
    refine z_aload hX dX1_setItem_93 (i := 5) rfl ?_
    obtain ⟨a82, f83, r84, m85, hw⟩ := hw
    refine z_invV hX hd r84 (ci := 0) rfl rfl m85 dX1_setItem_95 (hC 69 _ zm69 _ _ _ _ hw) q2090 q2092 qs30 zh1 q2093 q130 zn69 rfl (Nat.le_of_ble_eq_true rfl) (st := []) rfl (zcs8 (Nat.le_of_ble_eq_true rfl)) rfl (zkV (fun s80 hw => ?_)) (zout hX hR hTb)
    refine z_iload hX dX1_setItem_98 (i := 4) rfl ?_
    exact z_ireturn hX hR dX1_setItem_100 rfl hw
  · refine z_if_ne hX dX1_setItem_18 (tgt := 33) rfl (fun c86 => ?_) (fun c86 => ?_)
    · have hw := hw.1 c86
      refine z_iload_n hX dX1_setItem_33 rfl (i := 3) rfl ?_
      refine z_i2l hX dX1_setItem_34 ?_
      refine z_lconst hX (v := (0 : Int64)) dX1_setItem_35 (by decide) ?_
      refine z_ldc2 hX dX1_setItem_36 q2073 ?_
      refine z_invS hX hd dX1_setItem_39 (hC 48 _ zm48 _ _ _ _ hw) q1014 q1015 zh1 q1016 q130 zn48 rfl (Nat.le_of_ble_eq_true rfl) (st := []) rfl (zcs8 (Nat.le_of_ble_eq_true rfl)) rfl (zkI (fun v87 s88 hw => ?_)) (zout hX hR hTb)
      exact hj16 _ _ hw
    · have hw := hw.2 c86
      refine z_iload_n hX dX1_setItem_21 rfl (i := 3) rfl ?_
      refine z_i2l hX dX1_setItem_22 ?_
      refine z_lconst hX (v := (1 : Int64)) dX1_setItem_23 (by decide) ?_
      refine z_ldc2 hX dX1_setItem_24 q2072 ?_
      refine z_invS hX hd dX1_setItem_27 (hC 48 _ zm48 _ _ _ _ hw) q1014 q1015 zh1 q1016 q130 zn48 rfl (Nat.le_of_ble_eq_true rfl) (st := []) rfl (zcs8 (Nat.le_of_ble_eq_true rfl)) rfl (zkI (fun v90 s91 hw => ?_)) (zout hX hR hTb)
      refine z_goto hX dX1_setItem_30 (tgt := 42) rfl ?_
      exact hj16 _ _ hw
abbrev cX1_renewed : ByteArray := prog_1_method_40_code
def yX1_renewed : MethodName := ⟨RX1, "renewed", "(LPackingDuel$State;)V"⟩
def dkwX1_renewed_0 : List UInt8 := [43, 182, 1, 58, 42, 43, 182, 1, 61, 177]
abbrev dktX1_renewed_0 : List UInt8 := dkwX1_renewed_0 ++ []
theorem dksX1_renewed_0 : cX1_renewed.data.toList.drop 0 = dktX1_renewed_0 := by decide +kernel
theorem dX1_renewed_0 : decode cX1_renewed 0 = .ok (.aload_n 1, 1) := dk_43 (dk_at dksX1_renewed_0 0 rfl rfl)
theorem dX1_renewed_1 : decode cX1_renewed 1 = .ok (.invokevirtual 314, 3) := dk_182 1 58 (dk_at dksX1_renewed_0 1 rfl rfl)
theorem dX1_renewed_4 : decode cX1_renewed 4 = .ok (.aload_n 0, 1) := dk_42 (dk_at dksX1_renewed_0 4 rfl rfl)
theorem dX1_renewed_5 : decode cX1_renewed 5 = .ok (.aload_n 1, 1) := dk_43 (dk_at dksX1_renewed_0 5 rfl rfl)
theorem dX1_renewed_6 : decode cX1_renewed 6 = .ok (.invokevirtual 317, 3) := dk_182 1 61 (dk_at dksX1_renewed_0 6 rfl rfl)
theorem dX1_renewed_9 : decode cX1_renewed 9 = .ok (.return_, 1) := dk_177 (dk_at dksX1_renewed_0 9 rfl rfl)
/-- PackingDuel.renewed(LPackingDuel$State;)V -/
def zb69 (G : zPg) (C : zO) (args : List Value) (Q : zQ) (Y : zY) (σ : zS) : Prop := ∃ (a0 : Nat) (x1 : Option Nat), args = [.ref a0, va_rf x1] ∧ (zrc σ x1 1 (fun a4 => zcl C 112 [.ref a4] Y σ (zqV (fun s2 => zrc s2 (some a0) 0 (fun a11 => zcl C 40 [.ref a11, va_rf x1] Y s2 (zqV (fun s9 => Q none s9)))))))
set_option maxHeartbeats 4000000 in
theorem wk69 {l : Launch} {g : zG} {d : Nat} {C : zO} (hG : zGk g) (hC : zSound l g d C) {args : List Value} {Q : zQ} {Y : zY} {σ : zS} (hw : zb69 (zpg g) C args Q Y σ) : zMet l g (d + 1) (⟨"PackingDuel", "renewed", "(LPackingDuel$State;)V"⟩, Cond.code ⟨"PackingDuel", "renewed", "(LPackingDuel$State;)V"⟩ prog_1_method_40_code 2 (Option.none : Option FieldType)) args σ Q Y := by
  obtain ⟨a0, x1, rfl, hw⟩ := hw
  refine zof hG (by decide +kernel) [false, false] ⟨rfl, (zc_rf _), trivial⟩ (Nat.le_of_ble_eq_true rfl) (ls := [some (va_rf (some a0)), some (va_rf x1)]) rfl ?_
  intro X hX hR hTb hd1 hd2 hl hg hnm
  subst hl
  subst hg
  have hd : zDep X d := ⟨hd1, hd2⟩
  refine z_aload_n hX dX1_renewed_0 rfl (i := 1) rfl ?_
  obtain ⟨a4, f5, r6, m7, hw⟩ := hw
  refine z_invV hX hd r6 (ci := 1) rfl rfl m7 dX1_renewed_1 (hC 112 _ zm112 _ _ _ _ hw) q2094 q2095 q2096 zh2 q2097 q131 zn112 rfl (Nat.le_of_ble_eq_true rfl) (st := []) rfl (zcs8 (Nat.le_of_ble_eq_true rfl)) rfl (zkV (fun s2 hw => ?_)) (zout hX hR hTb)
  refine z_aload_n hX dX1_renewed_4 rfl (i := 0) rfl ?_
  refine z_aload_n hX dX1_renewed_5 rfl (i := 1) rfl ?_
  obtain ⟨a11, f12, r13, m14, hw⟩ := hw
  refine z_invV hX hd r13 (ci := 0) rfl rfl m14 dX1_renewed_6 (hC 40 _ zm40 _ _ _ _ hw) q838 q840 qs14 zh1 q841 q130 zn40 rfl (Nat.le_of_ble_eq_true rfl) (st := []) rfl (zcs8 (Nat.le_of_ble_eq_true rfl)) rfl (zkV (fun s9 hw => ?_)) (zout hX hR hTb)
  exact z_return hX hR dX1_renewed_9 hw
abbrev cX1_setCapacity : ByteArray := prog_1_method_42_code
def yX1_setCapacity : MethodName := ⟨RX1, "setCapacity", "(I)I"⟩
def dkwX1_setCapacity_1 : List UInt8 := [182, 1, 69, 78, 45, 27, 181, 0, 136, 42, 45, 182, 1, 81, 28, 172]
abbrev dktX1_setCapacity_1 : List UInt8 := dkwX1_setCapacity_1 ++ []
def dkwX1_setCapacity_0 : List UInt8 := [27, 133, 9, 20, 1, 84, 184, 0, 84, 184, 0, 88, 42, 180, 0, 46, 180, 0, 136, 61, 42, 180, 0, 46]
abbrev dktX1_setCapacity_0 : List UInt8 := dkwX1_setCapacity_0 ++ dktX1_setCapacity_1
theorem dksX1_setCapacity_0 : cX1_setCapacity.data.toList.drop 0 = dktX1_setCapacity_0 := by decide +kernel
theorem dksX1_setCapacity_1 : cX1_setCapacity.data.toList.drop 24 = dktX1_setCapacity_1 := dk_seg dksX1_setCapacity_0 24 rfl rfl
theorem dX1_setCapacity_0 : decode cX1_setCapacity 0 = .ok (.iload_n 1, 1) := dk_27 (dk_at dksX1_setCapacity_0 0 rfl rfl)
theorem dX1_setCapacity_1 : decode cX1_setCapacity 1 = .ok (.i2l, 1) := dk_133 (dk_at dksX1_setCapacity_0 1 rfl rfl)
theorem dX1_setCapacity_2 : decode cX1_setCapacity 2 = .ok (.lconst 0, 1) := dk_9 (dk_at dksX1_setCapacity_0 2 rfl rfl)
theorem dX1_setCapacity_3 : decode cX1_setCapacity 3 = .ok (.ldc2_w 340, 3) := dk_20 1 84 (dk_at dksX1_setCapacity_0 3 rfl rfl)
theorem dX1_setCapacity_6 : decode cX1_setCapacity 6 = .ok (.invokestatic 84, 3) := dk_184 0 84 (dk_at dksX1_setCapacity_0 6 rfl rfl)
theorem dX1_setCapacity_9 : decode cX1_setCapacity 9 = .ok (.invokestatic 88, 3) := dk_184 0 88 (dk_at dksX1_setCapacity_0 9 rfl rfl)
theorem dX1_setCapacity_12 : decode cX1_setCapacity 12 = .ok (.aload_n 0, 1) := dk_42 (dk_at dksX1_setCapacity_0 12 rfl rfl)
theorem dX1_setCapacity_13 : decode cX1_setCapacity 13 = .ok (.getfield 46, 3) := dk_180 0 46 (dk_at dksX1_setCapacity_0 13 rfl rfl)
theorem dX1_setCapacity_16 : decode cX1_setCapacity 16 = .ok (.getfield 136, 3) := dk_180 0 136 (dk_at dksX1_setCapacity_0 16 rfl rfl)
theorem dX1_setCapacity_19 : decode cX1_setCapacity 19 = .ok (.istore_n 2, 1) := dk_61 (dk_at dksX1_setCapacity_0 19 rfl rfl)
theorem dX1_setCapacity_20 : decode cX1_setCapacity 20 = .ok (.aload_n 0, 1) := dk_42 (dk_at dksX1_setCapacity_0 20 rfl rfl)
theorem dX1_setCapacity_21 : decode cX1_setCapacity 21 = .ok (.getfield 46, 3) := dk_180 0 46 (dk_at dksX1_setCapacity_0 21 rfl rfl)
theorem dX1_setCapacity_24 : decode cX1_setCapacity 24 = .ok (.invokevirtual 325, 3) := dk_182 1 69 (dk_at dksX1_setCapacity_1 0 rfl rfl)
theorem dX1_setCapacity_27 : decode cX1_setCapacity 27 = .ok (.astore_n 3, 1) := dk_78 (dk_at dksX1_setCapacity_1 3 rfl rfl)
theorem dX1_setCapacity_28 : decode cX1_setCapacity 28 = .ok (.aload_n 3, 1) := dk_45 (dk_at dksX1_setCapacity_1 4 rfl rfl)
theorem dX1_setCapacity_29 : decode cX1_setCapacity 29 = .ok (.iload_n 1, 1) := dk_27 (dk_at dksX1_setCapacity_1 5 rfl rfl)
theorem dX1_setCapacity_30 : decode cX1_setCapacity 30 = .ok (.putfield 136, 3) := dk_181 0 136 (dk_at dksX1_setCapacity_1 6 rfl rfl)
theorem dX1_setCapacity_33 : decode cX1_setCapacity 33 = .ok (.aload_n 0, 1) := dk_42 (dk_at dksX1_setCapacity_1 9 rfl rfl)
theorem dX1_setCapacity_34 : decode cX1_setCapacity 34 = .ok (.aload_n 3, 1) := dk_45 (dk_at dksX1_setCapacity_1 10 rfl rfl)
theorem dX1_setCapacity_35 : decode cX1_setCapacity 35 = .ok (.invokevirtual 337, 3) := dk_182 1 81 (dk_at dksX1_setCapacity_1 11 rfl rfl)
theorem dX1_setCapacity_38 : decode cX1_setCapacity 38 = .ok (.iload_n 2, 1) := dk_28 (dk_at dksX1_setCapacity_1 14 rfl rfl)
theorem dX1_setCapacity_39 : decode cX1_setCapacity 39 = .ok (.ireturn, 1) := dk_172 (dk_at dksX1_setCapacity_1 15 rfl rfl)
/-- PackingDuel.setCapacity(I)I -/
def zb70 (G : zPg) (C : zO) (args : List Value) (Q : zQ) (Y : zY) (σ : zS) : Prop := ∃ (a0 : Nat) (x1 : Int32), args = [.ref a0, .int x1] ∧ (zcl C 48 [.long x1.toInt64, .long (0 : Int64), .long (200 : Int64)] Y σ (zqI (fun v1 s2 => zcl C 51 [.int v1] Y s2 (zqV (fun s5 => zgR s5 (some a0) 0 0 (fun v7 => zgI s5 v7 1 3 (fun v13 => zgR s5 (some a0) 0 0 (fun v19 => zrc s5 v19 1 (fun a28 => zcl C 105 [.ref a28] Y s5 (zqR (fun v25 s26 => zput s26 G.1 v25 1 3 (.int x1) (fun s32 => zrc s32 (some a0) 0 (fun a43 => zcl C 69 [.ref a43, va_rf v25] Y s32 (zqV (fun s41 => Q (some (.int v13)) s41)))))))))))))))
set_option maxHeartbeats 4000000 in
theorem wk70 {l : Launch} {g : zG} {d : Nat} {C : zO} (hG : zGk g) (hC : zSound l g d C) {args : List Value} {Q : zQ} {Y : zY} {σ : zS} (hw : zb70 (zpg g) C args Q Y σ) : zMet l g (d + 1) (⟨"PackingDuel", "setCapacity", "(I)I"⟩, Cond.code ⟨"PackingDuel", "setCapacity", "(I)I"⟩ prog_1_method_42_code 4 (Option.some FieldType.int)) args σ Q Y := by
  obtain ⟨a0, x1, rfl, hw⟩ := hw
  refine zof hG (by decide +kernel) [false, false] ⟨rfl, rfl, trivial⟩ (Nat.le_of_ble_eq_true rfl) (ls := [some (va_rf (some a0)), some (.int x1), none, none]) rfl ?_
  intro X hX hR hTb hd1 hd2 hl hg hnm
  subst hl
  subst hg
  have hd : zDep X d := ⟨hd1, hd2⟩
  refine z_iload_n hX dX1_setCapacity_0 rfl (i := 1) rfl ?_
  refine z_i2l hX dX1_setCapacity_1 ?_
  refine z_lconst hX (v := (0 : Int64)) dX1_setCapacity_2 (by decide) ?_
  refine z_ldc2 hX dX1_setCapacity_3 q2119 ?_
  refine z_invS hX hd dX1_setCapacity_6 (hC 48 _ zm48 _ _ _ _ hw) q1014 q1015 zh1 q1016 q130 zn48 rfl (Nat.le_of_ble_eq_true rfl) (st := []) rfl (zcs8 (Nat.le_of_ble_eq_true rfl)) rfl (zkI (fun v1 s2 hw => ?_)) (zout hX hR hTb)
  refine z_invS hX hd dX1_setCapacity_9 (hC 51 _ zm51 _ _ _ _ hw) q1067 q1068 zh1 q1069 q130 zn51 rfl (Nat.le_of_ble_eq_true rfl) (st := []) rfl (zcs8 (Nat.le_of_ble_eq_true rfl)) rfl (zkV (fun s5 hw => ?_)) (zout hX hR hTb)
  refine z_aload_n hX dX1_setCapacity_12 rfl (i := 0) rfl ?_
  obtain ⟨a8, f9, v7, r10, m11, e12, hw⟩ := hw
  refine z_get hX zc0 (k := 0) dX1_setCapacity_13 (Nat.le_of_ble_eq_true rfl) (zlk hX q307) r10 m11 e12 ?_
  obtain ⟨a14, f15, v13, r16, m17, e18, hw⟩ := hw
  refine z_get hX zc1 (k := 3) dX1_setCapacity_16 (Nat.le_of_ble_eq_true rfl) (zlkN hX "PackingDuel" q236) r16 m17 e18 ?_
  refine z_istore_n hX dX1_setCapacity_19 rfl (i := 2) (Nat.le_of_ble_eq_true rfl) rfl (ls2 := [some (va_rf (some a0)), some (.int x1), some (.int v13), none]) rfl ?_
  refine z_aload_n hX dX1_setCapacity_20 rfl (i := 0) rfl ?_
  obtain ⟨a20, f21, v19, r22, m23, e24, hw⟩ := hw
  refine z_get hX zc0 (k := 0) dX1_setCapacity_21 (Nat.le_of_ble_eq_true rfl) (zlk hX q307) r22 m23 e24 ?_
  obtain ⟨a28, f29, r30, m31, hw⟩ := hw
  refine z_invV hX hd r30 (ci := 1) rfl rfl m31 dX1_setCapacity_24 (hC 105 _ zm105 _ _ _ _ hw) q758 q759 q760 zh2 q761 q131 zn105 rfl (Nat.le_of_ble_eq_true rfl) (st := []) rfl (zcs8 (Nat.le_of_ble_eq_true rfl)) rfl (zkR (fun v25 s26 hw => ?_)) (zout hX hR hTb)
  refine z_astore_n hX dX1_setCapacity_27 rfl (i := 3) (Nat.le_of_ble_eq_true rfl) rfl (ls2 := [some (va_rf (some a0)), some (.int x1), some (.int v13), some (va_rf v25)]) rfl ?_
  refine z_aload_n hX dX1_setCapacity_28 rfl (i := 3) rfl ?_
  refine z_iload_n hX dX1_setCapacity_29 rfl (i := 1) rfl ?_
  obtain ⟨a34, f35, r36, g37, m38, l39, hw⟩ := hw
  refine z_put hX zc1 (k := 3) dX1_setCapacity_30 (Nat.le_of_ble_eq_true rfl) (zlkN hX "PackingDuel" q236) rfl rfl rfl r36 g37 m38 l39 (z_nm (fun s32 e33 => ?_))
  have hw := hw s32 e33
  refine z_aload_n hX dX1_setCapacity_33 rfl (i := 0) rfl ?_
  refine z_aload_n hX dX1_setCapacity_34 rfl (i := 3) rfl ?_
  obtain ⟨a43, f44, r45, m46, hw⟩ := hw
  refine z_invV hX hd r45 (ci := 0) rfl rfl m46 dX1_setCapacity_35 (hC 69 _ zm69 _ _ _ _ hw) q2090 q2092 qs30 zh1 q2093 q130 zn69 rfl (Nat.le_of_ble_eq_true rfl) (st := []) rfl (zcs8 (Nat.le_of_ble_eq_true rfl)) rfl (zkV (fun s41 hw => ?_)) (zout hX hR hTb)
  refine z_iload_n hX dX1_setCapacity_38 rfl (i := 2) rfl ?_
  exact z_ireturn hX hR dX1_setCapacity_39 rfl hw
abbrev cX1_setThreshold : ByteArray := prog_1_method_43_code
def yX1_setThreshold : MethodName := ⟨RX1, "setThreshold", "(I)I"⟩
def dkwX1_setThreshold_1 : List UInt8 := [182, 1, 69, 78, 45, 27, 181, 0, 139, 42, 45, 182, 1, 81, 28, 172]
abbrev dktX1_setThreshold_1 : List UInt8 := dkwX1_setThreshold_1 ++ []
def dkwX1_setThreshold_0 : List UInt8 := [27, 133, 9, 20, 1, 84, 184, 0, 84, 184, 0, 88, 42, 180, 0, 46, 180, 0, 139, 61, 42, 180, 0, 46]
abbrev dktX1_setThreshold_0 : List UInt8 := dkwX1_setThreshold_0 ++ dktX1_setThreshold_1
theorem dksX1_setThreshold_0 : cX1_setThreshold.data.toList.drop 0 = dktX1_setThreshold_0 := by decide +kernel
theorem dksX1_setThreshold_1 : cX1_setThreshold.data.toList.drop 24 = dktX1_setThreshold_1 := dk_seg dksX1_setThreshold_0 24 rfl rfl
theorem dX1_setThreshold_0 : decode cX1_setThreshold 0 = .ok (.iload_n 1, 1) := dk_27 (dk_at dksX1_setThreshold_0 0 rfl rfl)
theorem dX1_setThreshold_1 : decode cX1_setThreshold 1 = .ok (.i2l, 1) := dk_133 (dk_at dksX1_setThreshold_0 1 rfl rfl)
theorem dX1_setThreshold_2 : decode cX1_setThreshold 2 = .ok (.lconst 0, 1) := dk_9 (dk_at dksX1_setThreshold_0 2 rfl rfl)
theorem dX1_setThreshold_3 : decode cX1_setThreshold 3 = .ok (.ldc2_w 340, 3) := dk_20 1 84 (dk_at dksX1_setThreshold_0 3 rfl rfl)
theorem dX1_setThreshold_6 : decode cX1_setThreshold 6 = .ok (.invokestatic 84, 3) := dk_184 0 84 (dk_at dksX1_setThreshold_0 6 rfl rfl)
theorem dX1_setThreshold_9 : decode cX1_setThreshold 9 = .ok (.invokestatic 88, 3) := dk_184 0 88 (dk_at dksX1_setThreshold_0 9 rfl rfl)
theorem dX1_setThreshold_12 : decode cX1_setThreshold 12 = .ok (.aload_n 0, 1) := dk_42 (dk_at dksX1_setThreshold_0 12 rfl rfl)
theorem dX1_setThreshold_13 : decode cX1_setThreshold 13 = .ok (.getfield 46, 3) := dk_180 0 46 (dk_at dksX1_setThreshold_0 13 rfl rfl)
theorem dX1_setThreshold_16 : decode cX1_setThreshold 16 = .ok (.getfield 139, 3) := dk_180 0 139 (dk_at dksX1_setThreshold_0 16 rfl rfl)
theorem dX1_setThreshold_19 : decode cX1_setThreshold 19 = .ok (.istore_n 2, 1) := dk_61 (dk_at dksX1_setThreshold_0 19 rfl rfl)
theorem dX1_setThreshold_20 : decode cX1_setThreshold 20 = .ok (.aload_n 0, 1) := dk_42 (dk_at dksX1_setThreshold_0 20 rfl rfl)
theorem dX1_setThreshold_21 : decode cX1_setThreshold 21 = .ok (.getfield 46, 3) := dk_180 0 46 (dk_at dksX1_setThreshold_0 21 rfl rfl)
theorem dX1_setThreshold_24 : decode cX1_setThreshold 24 = .ok (.invokevirtual 325, 3) := dk_182 1 69 (dk_at dksX1_setThreshold_1 0 rfl rfl)
theorem dX1_setThreshold_27 : decode cX1_setThreshold 27 = .ok (.astore_n 3, 1) := dk_78 (dk_at dksX1_setThreshold_1 3 rfl rfl)
theorem dX1_setThreshold_28 : decode cX1_setThreshold 28 = .ok (.aload_n 3, 1) := dk_45 (dk_at dksX1_setThreshold_1 4 rfl rfl)
theorem dX1_setThreshold_29 : decode cX1_setThreshold 29 = .ok (.iload_n 1, 1) := dk_27 (dk_at dksX1_setThreshold_1 5 rfl rfl)
theorem dX1_setThreshold_30 : decode cX1_setThreshold 30 = .ok (.putfield 139, 3) := dk_181 0 139 (dk_at dksX1_setThreshold_1 6 rfl rfl)
theorem dX1_setThreshold_33 : decode cX1_setThreshold 33 = .ok (.aload_n 0, 1) := dk_42 (dk_at dksX1_setThreshold_1 9 rfl rfl)
theorem dX1_setThreshold_34 : decode cX1_setThreshold 34 = .ok (.aload_n 3, 1) := dk_45 (dk_at dksX1_setThreshold_1 10 rfl rfl)
theorem dX1_setThreshold_35 : decode cX1_setThreshold 35 = .ok (.invokevirtual 337, 3) := dk_182 1 81 (dk_at dksX1_setThreshold_1 11 rfl rfl)
theorem dX1_setThreshold_38 : decode cX1_setThreshold 38 = .ok (.iload_n 2, 1) := dk_28 (dk_at dksX1_setThreshold_1 14 rfl rfl)
theorem dX1_setThreshold_39 : decode cX1_setThreshold 39 = .ok (.ireturn, 1) := dk_172 (dk_at dksX1_setThreshold_1 15 rfl rfl)
/-- PackingDuel.setThreshold(I)I -/
def zb71 (G : zPg) (C : zO) (args : List Value) (Q : zQ) (Y : zY) (σ : zS) : Prop := ∃ (a0 : Nat) (x1 : Int32), args = [.ref a0, .int x1] ∧ (zcl C 48 [.long x1.toInt64, .long (0 : Int64), .long (200 : Int64)] Y σ (zqI (fun v1 s2 => zcl C 51 [.int v1] Y s2 (zqV (fun s5 => zgR s5 (some a0) 0 0 (fun v7 => zgI s5 v7 1 4 (fun v13 => zgR s5 (some a0) 0 0 (fun v19 => zrc s5 v19 1 (fun a28 => zcl C 105 [.ref a28] Y s5 (zqR (fun v25 s26 => zput s26 G.1 v25 1 4 (.int x1) (fun s32 => zrc s32 (some a0) 0 (fun a43 => zcl C 69 [.ref a43, va_rf v25] Y s32 (zqV (fun s41 => Q (some (.int v13)) s41)))))))))))))))
set_option maxHeartbeats 4000000 in
theorem wk71 {l : Launch} {g : zG} {d : Nat} {C : zO} (hG : zGk g) (hC : zSound l g d C) {args : List Value} {Q : zQ} {Y : zY} {σ : zS} (hw : zb71 (zpg g) C args Q Y σ) : zMet l g (d + 1) (⟨"PackingDuel", "setThreshold", "(I)I"⟩, Cond.code ⟨"PackingDuel", "setThreshold", "(I)I"⟩ prog_1_method_43_code 4 (Option.some FieldType.int)) args σ Q Y := by
  obtain ⟨a0, x1, rfl, hw⟩ := hw
  refine zof hG (by decide +kernel) [false, false] ⟨rfl, rfl, trivial⟩ (Nat.le_of_ble_eq_true rfl) (ls := [some (va_rf (some a0)), some (.int x1), none, none]) rfl ?_
  intro X hX hR hTb hd1 hd2 hl hg hnm
  subst hl
  subst hg
  have hd : zDep X d := ⟨hd1, hd2⟩
  refine z_iload_n hX dX1_setThreshold_0 rfl (i := 1) rfl ?_
  refine z_i2l hX dX1_setThreshold_1 ?_
  refine z_lconst hX (v := (0 : Int64)) dX1_setThreshold_2 (by decide) ?_
  refine z_ldc2 hX dX1_setThreshold_3 q2119 ?_
  refine z_invS hX hd dX1_setThreshold_6 (hC 48 _ zm48 _ _ _ _ hw) q1014 q1015 zh1 q1016 q130 zn48 rfl (Nat.le_of_ble_eq_true rfl) (st := []) rfl (zcs8 (Nat.le_of_ble_eq_true rfl)) rfl (zkI (fun v1 s2 hw => ?_)) (zout hX hR hTb)
  refine z_invS hX hd dX1_setThreshold_9 (hC 51 _ zm51 _ _ _ _ hw) q1067 q1068 zh1 q1069 q130 zn51 rfl (Nat.le_of_ble_eq_true rfl) (st := []) rfl (zcs8 (Nat.le_of_ble_eq_true rfl)) rfl (zkV (fun s5 hw => ?_)) (zout hX hR hTb)
  refine z_aload_n hX dX1_setThreshold_12 rfl (i := 0) rfl ?_
  obtain ⟨a8, f9, v7, r10, m11, e12, hw⟩ := hw
  refine z_get hX zc0 (k := 0) dX1_setThreshold_13 (Nat.le_of_ble_eq_true rfl) (zlk hX q307) r10 m11 e12 ?_
  obtain ⟨a14, f15, v13, r16, m17, e18, hw⟩ := hw
  refine z_get hX zc1 (k := 4) dX1_setThreshold_16 (Nat.le_of_ble_eq_true rfl) (zlkN hX "PackingDuel" q240) r16 m17 e18 ?_
  refine z_istore_n hX dX1_setThreshold_19 rfl (i := 2) (Nat.le_of_ble_eq_true rfl) rfl (ls2 := [some (va_rf (some a0)), some (.int x1), some (.int v13), none]) rfl ?_
  refine z_aload_n hX dX1_setThreshold_20 rfl (i := 0) rfl ?_
  obtain ⟨a20, f21, v19, r22, m23, e24, hw⟩ := hw
  refine z_get hX zc0 (k := 0) dX1_setThreshold_21 (Nat.le_of_ble_eq_true rfl) (zlk hX q307) r22 m23 e24 ?_
  obtain ⟨a28, f29, r30, m31, hw⟩ := hw
  refine z_invV hX hd r30 (ci := 1) rfl rfl m31 dX1_setThreshold_24 (hC 105 _ zm105 _ _ _ _ hw) q758 q759 q760 zh2 q761 q131 zn105 rfl (Nat.le_of_ble_eq_true rfl) (st := []) rfl (zcs8 (Nat.le_of_ble_eq_true rfl)) rfl (zkR (fun v25 s26 hw => ?_)) (zout hX hR hTb)
  refine z_astore_n hX dX1_setThreshold_27 rfl (i := 3) (Nat.le_of_ble_eq_true rfl) rfl (ls2 := [some (va_rf (some a0)), some (.int x1), some (.int v13), some (va_rf v25)]) rfl ?_
  refine z_aload_n hX dX1_setThreshold_28 rfl (i := 3) rfl ?_
  refine z_iload_n hX dX1_setThreshold_29 rfl (i := 1) rfl ?_
  obtain ⟨a34, f35, r36, g37, m38, l39, hw⟩ := hw
  refine z_put hX zc1 (k := 4) dX1_setThreshold_30 (Nat.le_of_ble_eq_true rfl) (zlkN hX "PackingDuel" q240) rfl rfl rfl r36 g37 m38 l39 (z_nm (fun s32 e33 => ?_))
  have hw := hw s32 e33
  refine z_aload_n hX dX1_setThreshold_33 rfl (i := 0) rfl ?_
  refine z_aload_n hX dX1_setThreshold_34 rfl (i := 3) rfl ?_
  obtain ⟨a43, f44, r45, m46, hw⟩ := hw
  refine z_invV hX hd r45 (ci := 0) rfl rfl m46 dX1_setThreshold_35 (hC 69 _ zm69 _ _ _ _ hw) q2090 q2092 qs30 zh1 q2093 q130 zn69 rfl (Nat.le_of_ble_eq_true rfl) (st := []) rfl (zcs8 (Nat.le_of_ble_eq_true rfl)) rfl (zkV (fun s41 hw => ?_)) (zout hX hR hTb)
  refine z_iload_n hX dX1_setThreshold_38 rfl (i := 2) rfl ?_
  exact z_ireturn hX hR dX1_setThreshold_39 rfl hw
abbrev cX1_addPlan : ByteArray := prog_1_method_46_code
def yX1_addPlan : MethodName := ⟨RX1, "addPlan", "(I)I"⟩
def dkwX1_addPlan_0 : List UInt8 := [42, 4, 27, 182, 1, 93, 172]
abbrev dktX1_addPlan_0 : List UInt8 := dkwX1_addPlan_0 ++ []
theorem dksX1_addPlan_0 : cX1_addPlan.data.toList.drop 0 = dktX1_addPlan_0 := by decide +kernel
theorem dX1_addPlan_0 : decode cX1_addPlan 0 = .ok (.aload_n 0, 1) := dk_42 (dk_at dksX1_addPlan_0 0 rfl rfl)
theorem dX1_addPlan_1 : decode cX1_addPlan 1 = .ok (.iconst 1, 1) := dk_4 (dk_at dksX1_addPlan_0 1 rfl rfl)
theorem dX1_addPlan_2 : decode cX1_addPlan 2 = .ok (.iload_n 1, 1) := dk_27 (dk_at dksX1_addPlan_0 2 rfl rfl)
theorem dX1_addPlan_3 : decode cX1_addPlan 3 = .ok (.invokevirtual 349, 3) := dk_182 1 93 (dk_at dksX1_addPlan_0 3 rfl rfl)
theorem dX1_addPlan_6 : decode cX1_addPlan 6 = .ok (.ireturn, 1) := dk_172 (dk_at dksX1_addPlan_0 6 rfl rfl)
/-- PackingDuel.addPlan(I)I -/
def zb72 (G : zPg) (C : zO) (args : List Value) (Q : zQ) (Y : zY) (σ : zS) : Prop := ∃ (a0 : Nat) (x1 : Int32), args = [.ref a0, .int x1] ∧ (zrc σ (some a0) 0 (fun a4 => zcl C 73 [.ref a4, .int (1 : Int32), .int x1] Y σ (zqI (fun v1 s2 => Q (some (.int v1)) s2))))
set_option maxHeartbeats 4000000 in
theorem wk72 {l : Launch} {g : zG} {d : Nat} {C : zO} (hG : zGk g) (hC : zSound l g d C) {args : List Value} {Q : zQ} {Y : zY} {σ : zS} (hw : zb72 (zpg g) C args Q Y σ) : zMet l g (d + 1) (⟨"PackingDuel", "addPlan", "(I)I"⟩, Cond.code ⟨"PackingDuel", "addPlan", "(I)I"⟩ prog_1_method_46_code 2 (Option.some FieldType.int)) args σ Q Y := by
  obtain ⟨a0, x1, rfl, hw⟩ := hw
  refine zof hG (by decide +kernel) [false, false] ⟨rfl, rfl, trivial⟩ (Nat.le_of_ble_eq_true rfl) (ls := [some (va_rf (some a0)), some (.int x1)]) rfl ?_
  intro X hX hR hTb hd1 hd2 hl hg hnm
  subst hl
  subst hg
  have hd : zDep X d := ⟨hd1, hd2⟩
  refine z_aload_n hX dX1_addPlan_0 rfl (i := 0) rfl ?_
  refine z_iconst hX (v := (1 : Int32)) dX1_addPlan_1 (by decide) ?_
  refine z_iload_n hX dX1_addPlan_2 rfl (i := 1) rfl ?_
  obtain ⟨a4, f5, r6, m7, hw⟩ := hw
  refine z_invV hX hd r6 (ci := 0) rfl rfl m7 dX1_addPlan_3 (hC 73 _ zm73 _ _ _ _ hw) q2134 q2136 qs33 zh1 q2137 q130 zn73 rfl (Nat.le_of_ble_eq_true rfl) (st := []) rfl (zcs8 (Nat.le_of_ble_eq_true rfl)) rfl (zkI (fun v1 s2 hw => ?_)) (zout hX hR hTb)
  exact z_ireturn hX hR dX1_addPlan_6 rfl hw
abbrev cX1_add : ByteArray := prog_1_method_45_code
def yX1_add : MethodName := ⟨RX1, "add", "(ZI)I"⟩
def dkwX1_add_3 : List UInt8 := [180, 0, 46, 27, 182, 0, 202, 182, 0, 126, 4, 100, 172]
abbrev dktX1_add_3 : List UInt8 := dkwX1_add_3 ++ []
def dkwX1_add_2 : List UInt8 := [182, 1, 69, 78, 45, 27, 182, 0, 202, 28, 184, 1, 86, 182, 1, 90, 87, 42, 45, 182, 1, 61, 42]
abbrev dktX1_add_2 : List UInt8 := dkwX1_add_2 ++ dktX1_add_3
def dkwX1_add_1 : List UInt8 := [160, 0, 6, 16, 253, 172, 42, 180, 0, 46, 28, 182, 0, 163, 154, 0, 6, 16, 254, 172, 42, 180, 0, 46]
abbrev dktX1_add_1 : List UInt8 := dkwX1_add_1 ++ dktX1_add_2
def dkwX1_add_0 : List UInt8 := [42, 180, 0, 46, 28, 182, 0, 159, 184, 0, 88, 42, 180, 0, 46, 27, 182, 0, 202, 182, 0, 126, 8]
abbrev dktX1_add_0 : List UInt8 := dkwX1_add_0 ++ dktX1_add_1
theorem dksX1_add_0 : cX1_add.data.toList.drop 0 = dktX1_add_0 := by decide +kernel
theorem dksX1_add_1 : cX1_add.data.toList.drop 23 = dktX1_add_1 := dk_seg dksX1_add_0 23 rfl rfl
theorem dksX1_add_2 : cX1_add.data.toList.drop 47 = dktX1_add_2 := dk_seg dksX1_add_1 24 rfl rfl
theorem dksX1_add_3 : cX1_add.data.toList.drop 70 = dktX1_add_3 := dk_seg dksX1_add_2 23 rfl rfl
theorem dX1_add_0 : decode cX1_add 0 = .ok (.aload_n 0, 1) := dk_42 (dk_at dksX1_add_0 0 rfl rfl)
theorem dX1_add_1 : decode cX1_add 1 = .ok (.getfield 46, 3) := dk_180 0 46 (dk_at dksX1_add_0 1 rfl rfl)
theorem dX1_add_4 : decode cX1_add 4 = .ok (.iload_n 2, 1) := dk_28 (dk_at dksX1_add_0 4 rfl rfl)
theorem dX1_add_5 : decode cX1_add 5 = .ok (.invokevirtual 159, 3) := dk_182 0 159 (dk_at dksX1_add_0 5 rfl rfl)
theorem dX1_add_8 : decode cX1_add 8 = .ok (.invokestatic 88, 3) := dk_184 0 88 (dk_at dksX1_add_0 8 rfl rfl)
theorem dX1_add_11 : decode cX1_add 11 = .ok (.aload_n 0, 1) := dk_42 (dk_at dksX1_add_0 11 rfl rfl)
theorem dX1_add_12 : decode cX1_add 12 = .ok (.getfield 46, 3) := dk_180 0 46 (dk_at dksX1_add_0 12 rfl rfl)
theorem dX1_add_15 : decode cX1_add 15 = .ok (.iload_n 1, 1) := dk_27 (dk_at dksX1_add_0 15 rfl rfl)
theorem dX1_add_16 : decode cX1_add 16 = .ok (.invokevirtual 202, 3) := dk_182 0 202 (dk_at dksX1_add_0 16 rfl rfl)
theorem dX1_add_19 : decode cX1_add 19 = .ok (.invokevirtual 126, 3) := dk_182 0 126 (dk_at dksX1_add_0 19 rfl rfl)
theorem dX1_add_22 : decode cX1_add 22 = .ok (.iconst 5, 1) := dk_8 (dk_at dksX1_add_0 22 rfl rfl)
theorem dX1_add_23 : decode cX1_add 23 = .ok (.if_icmp .ne 6, 3) := dk_160 0 6 (dk_at dksX1_add_1 0 rfl rfl)
theorem dX1_add_26 : decode cX1_add 26 = .ok (.bipush (-3), 2) := dk_16 253 (dk_at dksX1_add_1 3 rfl rfl)
theorem dX1_add_28 : decode cX1_add 28 = .ok (.ireturn, 1) := dk_172 (dk_at dksX1_add_1 5 rfl rfl)
theorem dX1_add_29 : decode cX1_add 29 = .ok (.aload_n 0, 1) := dk_42 (dk_at dksX1_add_1 6 rfl rfl)
theorem dX1_add_30 : decode cX1_add 30 = .ok (.getfield 46, 3) := dk_180 0 46 (dk_at dksX1_add_1 7 rfl rfl)
theorem dX1_add_33 : decode cX1_add 33 = .ok (.iload_n 2, 1) := dk_28 (dk_at dksX1_add_1 10 rfl rfl)
theorem dX1_add_34 : decode cX1_add 34 = .ok (.invokevirtual 163, 3) := dk_182 0 163 (dk_at dksX1_add_1 11 rfl rfl)
theorem dX1_add_37 : decode cX1_add 37 = .ok (.ifCond .ne 6, 3) := dk_154 0 6 (dk_at dksX1_add_1 14 rfl rfl)
theorem dX1_add_40 : decode cX1_add 40 = .ok (.bipush (-2), 2) := dk_16 254 (dk_at dksX1_add_1 17 rfl rfl)
theorem dX1_add_42 : decode cX1_add 42 = .ok (.ireturn, 1) := dk_172 (dk_at dksX1_add_1 19 rfl rfl)
theorem dX1_add_43 : decode cX1_add 43 = .ok (.aload_n 0, 1) := dk_42 (dk_at dksX1_add_1 20 rfl rfl)
theorem dX1_add_44 : decode cX1_add 44 = .ok (.getfield 46, 3) := dk_180 0 46 (dk_at dksX1_add_1 21 rfl rfl)
theorem dX1_add_47 : decode cX1_add 47 = .ok (.invokevirtual 325, 3) := dk_182 1 69 (dk_at dksX1_add_2 0 rfl rfl)
theorem dX1_add_50 : decode cX1_add 50 = .ok (.astore_n 3, 1) := dk_78 (dk_at dksX1_add_2 3 rfl rfl)
theorem dX1_add_51 : decode cX1_add 51 = .ok (.aload_n 3, 1) := dk_45 (dk_at dksX1_add_2 4 rfl rfl)
theorem dX1_add_52 : decode cX1_add 52 = .ok (.iload_n 1, 1) := dk_27 (dk_at dksX1_add_2 5 rfl rfl)
theorem dX1_add_53 : decode cX1_add 53 = .ok (.invokevirtual 202, 3) := dk_182 0 202 (dk_at dksX1_add_2 6 rfl rfl)
theorem dX1_add_56 : decode cX1_add 56 = .ok (.iload_n 2, 1) := dk_28 (dk_at dksX1_add_2 9 rfl rfl)
theorem dX1_add_57 : decode cX1_add 57 = .ok (.invokestatic 342, 3) := dk_184 1 86 (dk_at dksX1_add_2 10 rfl rfl)
theorem dX1_add_60 : decode cX1_add 60 = .ok (.invokevirtual 346, 3) := dk_182 1 90 (dk_at dksX1_add_2 13 rfl rfl)
theorem dX1_add_63 : decode cX1_add 63 = .ok (.pop, 1) := dk_87 (dk_at dksX1_add_2 16 rfl rfl)
theorem dX1_add_64 : decode cX1_add 64 = .ok (.aload_n 0, 1) := dk_42 (dk_at dksX1_add_2 17 rfl rfl)
theorem dX1_add_65 : decode cX1_add 65 = .ok (.aload_n 3, 1) := dk_45 (dk_at dksX1_add_2 18 rfl rfl)
theorem dX1_add_66 : decode cX1_add 66 = .ok (.invokevirtual 317, 3) := dk_182 1 61 (dk_at dksX1_add_2 19 rfl rfl)
theorem dX1_add_69 : decode cX1_add 69 = .ok (.aload_n 0, 1) := dk_42 (dk_at dksX1_add_2 22 rfl rfl)
theorem dX1_add_70 : decode cX1_add 70 = .ok (.getfield 46, 3) := dk_180 0 46 (dk_at dksX1_add_3 0 rfl rfl)
theorem dX1_add_73 : decode cX1_add 73 = .ok (.iload_n 1, 1) := dk_27 (dk_at dksX1_add_3 3 rfl rfl)
theorem dX1_add_74 : decode cX1_add 74 = .ok (.invokevirtual 202, 3) := dk_182 0 202 (dk_at dksX1_add_3 4 rfl rfl)
theorem dX1_add_77 : decode cX1_add 77 = .ok (.invokevirtual 126, 3) := dk_182 0 126 (dk_at dksX1_add_3 7 rfl rfl)
theorem dX1_add_80 : decode cX1_add 80 = .ok (.iconst 1, 1) := dk_4 (dk_at dksX1_add_3 10 rfl rfl)
theorem dX1_add_81 : decode cX1_add 81 = .ok (.isub, 1) := dk_100 (dk_at dksX1_add_3 11 rfl rfl)
theorem dX1_add_82 : decode cX1_add 82 = .ok (.ireturn, 1) := dk_172 (dk_at dksX1_add_3 12 rfl rfl)
/-- PackingDuel.add(ZI)I -/
def zb73 (G : zPg) (C : zO) (args : List Value) (Q : zQ) (Y : zY) (σ : zS) : Prop := ∃ (a0 : Nat) (x1 : Int32) (x2 : Int32), args = [.ref a0, .int x1, .int x2] ∧ (zgR σ (some a0) 0 0 (fun v1 => zrc σ v1 1 (fun a10 => zcl C 109 [.ref a10, .int x2] Y σ (zqI (fun v7 s8 => zcl C 51 [.int v7] Y s8 (zqV (fun s15 => zgR s15 (some a0) 0 0 (fun v17 => zrc s15 v17 1 (fun a26 => zcl C 108 [.ref a26, .int x1] Y s15 (zqR (fun v23 s24 => zrc s24 v23 2 (fun a33 => zcl C 128 [.ref a33] Y s24 (zqI (fun v30 s31 => ((¬ v30 = (5 : Int32)) → zgR s31 (some a0) 0 0 (fun v38 => zrc s31 v38 1 (fun a47 => zcl C 84 [.ref a47, .int x2] Y s31 (zqI (fun v44 s45 => ((¬ v44 = 0) → zgR s45 (some a0) 0 0 (fun v52 => zrc s45 v52 1 (fun a61 => zcl C 105 [.ref a61] Y s45 (zqR (fun v58 s59 => zrc s59 v58 1 (fun a68 => zcl C 108 [.ref a68, .int x1] Y s59 (zqR (fun v65 s66 => zcl C 436 [.int x2] Y s66 (zqR (fun v72 s73 => zrc s73 v65 2 (fun a78 => zcl C 131 [.ref a78, va_rf v72] Y s73 (zqI (fun v75 s76 => zrc s76 (some a0) 0 (fun a85 => zcl C 40 [.ref a85, va_rf v58] Y s76 (zqV (fun s83 => zgR s83 (some a0) 0 0 (fun v89 => zrc s83 v89 1 (fun a98 => zcl C 108 [.ref a98, .int x1] Y s83 (zqR (fun v95 s96 => zrc s96 v95 2 (fun a105 => zcl C 128 [.ref a105] Y s96 (zqI (fun v102 s103 => Q (some (.int (v102 - (1 : Int32)))) s103))))))))))))))))))))))) ∧ ((v44 = 0) → Q (some (.int (-2 : Int32))) s45)))))) ∧ ((v30 = (5 : Int32)) → Q (some (.int (-3 : Int32))) s31)))))))))))))))
set_option maxHeartbeats 4000000 in
theorem wk73 {l : Launch} {g : zG} {d : Nat} {C : zO} (hG : zGk g) (hC : zSound l g d C) {args : List Value} {Q : zQ} {Y : zY} {σ : zS} (hw : zb73 (zpg g) C args Q Y σ) : zMet l g (d + 1) (⟨"PackingDuel", "add", "(ZI)I"⟩, Cond.code ⟨"PackingDuel", "add", "(ZI)I"⟩ prog_1_method_45_code 4 (Option.some FieldType.int)) args σ Q Y := by
  obtain ⟨a0, x1, x2, rfl, hw⟩ := hw
  refine zof hG (by decide +kernel) [false, false, false] ⟨rfl, rfl, rfl, trivial⟩ (Nat.le_of_ble_eq_true rfl) (ls := [some (va_rf (some a0)), some (.int x1), some (.int x2), none]) rfl ?_
  intro X hX hR hTb hd1 hd2 hl hg hnm
  subst hl
  subst hg
  have hd : zDep X d := ⟨hd1, hd2⟩
  refine z_aload_n hX dX1_add_0 rfl (i := 0) rfl ?_
  obtain ⟨a2, f3, v1, r4, m5, e6, hw⟩ := hw
  refine z_get hX zc0 (k := 0) dX1_add_1 (Nat.le_of_ble_eq_true rfl) (zlk hX q307) r4 m5 e6 ?_
  refine z_iload_n hX dX1_add_4 rfl (i := 2) rfl ?_
  obtain ⟨a10, f11, r12, m13, hw⟩ := hw
  refine z_invV hX hd r12 (ci := 1) rfl rfl m13 dX1_add_5 (hC 109 _ zm109 _ _ _ _ hw) q1665 q1666 q1667 zh2 q1668 q131 zn109 rfl (Nat.le_of_ble_eq_true rfl) (st := []) rfl (zcs8 (Nat.le_of_ble_eq_true rfl)) rfl (zkI (fun v7 s8 hw => ?_)) (zout hX hR hTb)
  refine z_invS hX hd dX1_add_8 (hC 51 _ zm51 _ _ _ _ hw) q1067 q1068 zh1 q1069 q130 zn51 rfl (Nat.le_of_ble_eq_true rfl) (st := []) rfl (zcs8 (Nat.le_of_ble_eq_true rfl)) rfl (zkV (fun s15 hw => ?_)) (zout hX hR hTb)
  refine z_aload_n hX dX1_add_11 rfl (i := 0) rfl ?_
  obtain ⟨a18, f19, v17, r20, m21, e22, hw⟩ := hw
  refine z_get hX zc0 (k := 0) dX1_add_12 (Nat.le_of_ble_eq_true rfl) (zlk hX q307) r20 m21 e22 ?_
  refine z_iload_n hX dX1_add_15 rfl (i := 1) rfl ?_
  obtain ⟨a26, f27, r28, m29, hw⟩ := hw
  refine z_invV hX hd r28 (ci := 1) rfl rfl m29 dX1_add_16 (hC 108 _ zm108 _ _ _ _ hw) q2023 q1532 q1533 zh2 q1534 q131 zn108 rfl (Nat.le_of_ble_eq_true rfl) (st := []) rfl (zcs8 (Nat.le_of_ble_eq_true rfl)) rfl (zkR (fun v23 s24 hw => ?_)) (zout hX hR hTb)
  obtain ⟨a33, f34, r35, m36, hw⟩ := hw
  refine z_invV hX hd r35 (ci := 2) rfl rfl m36 dX1_add_19 (hC 128 _ zm128 _ _ _ _ hw) q1630 q362 q363 zh5 q364 q134 zn128 rfl (Nat.le_of_ble_eq_true rfl) (st := []) rfl (zcs8 (Nat.le_of_ble_eq_true rfl)) rfl (zkI (fun v30 s31 hw => ?_)) (zout hX hR hTb)
  refine z_iconst hX (v := (5 : Int32)) dX1_add_22 (by decide) ?_
  refine z_icmp_ne hX dX1_add_23 (tgt := 29) rfl (fun c37 => ?_) (fun c37 => ?_)
  · have hw := hw.1 c37
    refine z_aload_n hX dX1_add_29 rfl (i := 0) rfl ?_
    obtain ⟨a39, f40, v38, r41, m42, e43, hw⟩ := hw
    refine z_get hX zc0 (k := 0) dX1_add_30 (Nat.le_of_ble_eq_true rfl) (zlk hX q307) r41 m42 e43 ?_
    refine z_iload_n hX dX1_add_33 rfl (i := 2) rfl ?_
    obtain ⟨a47, f48, r49, m50, hw⟩ := hw
    refine z_invV hX hd r49 (ci := 1) rfl rfl m50 dX1_add_34 (hC 84 _ zm84 _ _ _ _ hw) q736 q400 q401 zh2 q402 q131 zn84 rfl (Nat.le_of_ble_eq_true rfl) (st := []) rfl (zcs8 (Nat.le_of_ble_eq_true rfl)) rfl (zkI (fun v44 s45 hw => ?_)) (zout hX hR hTb)
    refine z_if_ne hX dX1_add_37 (tgt := 43) rfl (fun c51 => ?_) (fun c51 => ?_)
    · have hw := hw.1 c51
      refine z_aload_n hX dX1_add_43 rfl (i := 0) rfl ?_
      obtain ⟨a53, f54, v52, r55, m56, e57, hw⟩ := hw
      refine z_get hX zc0 (k := 0) dX1_add_44 (Nat.le_of_ble_eq_true rfl) (zlk hX q307) r55 m56 e57 ?_
      obtain ⟨a61, f62, r63, m64, hw⟩ := hw
      refine z_invV hX hd r63 (ci := 1) rfl rfl m64 dX1_add_47 (hC 105 _ zm105 _ _ _ _ hw) q758 q759 q760 zh2 q761 q131 zn105 rfl (Nat.le_of_ble_eq_true rfl) (st := []) rfl (zcs8 (Nat.le_of_ble_eq_true rfl)) rfl (zkR (fun v58 s59 hw => ?_)) (zout hX hR hTb)
      refine z_astore_n hX dX1_add_50 rfl (i := 3) (Nat.le_of_ble_eq_true rfl) rfl (ls2 := [some (va_rf (some a0)), some (.int x1), some (.int x2), some (va_rf v58)]) rfl ?_
      refine z_aload_n hX dX1_add_51 rfl (i := 3) rfl ?_
      refine z_iload_n hX dX1_add_52 rfl (i := 1) rfl ?_
      obtain ⟨a68, f69, r70, m71, hw⟩ := hw
      refine z_invV hX hd r70 (ci := 1) rfl rfl m71 dX1_add_53 (hC 108 _ zm108 _ _ _ _ hw) q2023 q1532 q1533 zh2 q1534 q131 zn108 rfl (Nat.le_of_ble_eq_true rfl) (st := []) rfl (zcs8 (Nat.le_of_ble_eq_true rfl)) rfl (zkR (fun v65 s66 hw => ?_)) (zout hX hR hTb)
      refine z_iload_n hX dX1_add_56 rfl (i := 2) rfl ?_
      refine z_invS hX hd dX1_add_57 (hC 436 _ zm436 _ _ _ _ hw) q2138 q1606 zh24 q1607 q154 zn436 rfl (Nat.le_of_ble_eq_true rfl) (st := [va_rf v65]) rfl (zcs8 (Nat.le_of_ble_eq_true rfl)) rfl (zkR (fun v72 s73 hw => ?_)) (zout hX hR hTb)
      obtain ⟨a78, f79, r80, m81, hw⟩ := hw
      refine z_invV hX hd r80 (ci := 2) rfl rfl m81 dX1_add_60 (hC 131 _ zm131 _ _ _ _ hw) q2139 q765 q766 zh5 q767 q134 zn131 rfl (Nat.le_of_ble_eq_true rfl) (st := []) rfl (zcs8 (Nat.le_of_ble_eq_true rfl)) rfl (zkI (fun v75 s76 hw => ?_)) (zout hX hR hTb)
      refine z_pop hX dX1_add_63 rfl ?_
      refine z_aload_n hX dX1_add_64 rfl (i := 0) rfl ?_
      refine z_aload_n hX dX1_add_65 rfl (i := 3) rfl ?_
      obtain ⟨a85, f86, r87, m88, hw⟩ := hw
      refine z_invV hX hd r87 (ci := 0) rfl rfl m88 dX1_add_66 (hC 40 _ zm40 _ _ _ _ hw) q838 q840 qs14 zh1 q841 q130 zn40 rfl (Nat.le_of_ble_eq_true rfl) (st := []) rfl (zcs8 (Nat.le_of_ble_eq_true rfl)) rfl (zkV (fun s83 hw => ?_)) (zout hX hR hTb)
      refine z_aload_n hX dX1_add_69 rfl (i := 0) rfl ?_
      obtain ⟨a90, f91, v89, r92, m93, e94, hw⟩ := hw
      refine z_get hX zc0 (k := 0) dX1_add_70 (Nat.le_of_ble_eq_true rfl) (zlk hX q307) r92 m93 e94 ?_
      refine z_iload_n hX dX1_add_73 rfl (i := 1) rfl ?_
      obtain ⟨a98, f99, r100, m101, hw⟩ := hw
      refine z_invV hX hd r100 (ci := 1) rfl rfl m101 dX1_add_74 (hC 108 _ zm108 _ _ _ _ hw) q2023 q1532 q1533 zh2 q1534 q131 zn108 rfl (Nat.le_of_ble_eq_true rfl) (st := []) rfl (zcs8 (Nat.le_of_ble_eq_true rfl)) rfl (zkR (fun v95 s96 hw => ?_)) (zout hX hR hTb)
      obtain ⟨a105, f106, r107, m108, hw⟩ := hw
      refine z_invV hX hd r107 (ci := 2) rfl rfl m108 dX1_add_77 (hC 128 _ zm128 _ _ _ _ hw) q1630 q362 q363 zh5 q364 q134 zn128 rfl (Nat.le_of_ble_eq_true rfl) (st := []) rfl (zcs8 (Nat.le_of_ble_eq_true rfl)) rfl (zkI (fun v102 s103 hw => ?_)) (zout hX hR hTb)
      refine z_iconst hX (v := (1 : Int32)) dX1_add_80 (by decide) ?_
      refine z_isub hX dX1_add_81 ?_
      exact z_ireturn hX hR dX1_add_82 rfl hw
    · have hw := hw.2 c51
      refine z_bipush hX (v := (-2 : Int32)) dX1_add_40 (by decide) ?_
      exact z_ireturn hX hR dX1_add_42 rfl hw
  · have hw := hw.2 c37
    refine z_bipush hX (v := (-3 : Int32)) dX1_add_26 (by decide) ?_
    exact z_ireturn hX hR dX1_add_28 rfl hw
abbrev cX1_addAnswer : ByteArray := prog_1_method_47_code
def yX1_addAnswer : MethodName := ⟨RX1, "addAnswer", "(I)I"⟩
def dkwX1_addAnswer_0 : List UInt8 := [42, 3, 27, 182, 1, 93, 172]
abbrev dktX1_addAnswer_0 : List UInt8 := dkwX1_addAnswer_0 ++ []
theorem dksX1_addAnswer_0 : cX1_addAnswer.data.toList.drop 0 = dktX1_addAnswer_0 := by decide +kernel
theorem dX1_addAnswer_0 : decode cX1_addAnswer 0 = .ok (.aload_n 0, 1) := dk_42 (dk_at dksX1_addAnswer_0 0 rfl rfl)
theorem dX1_addAnswer_1 : decode cX1_addAnswer 1 = .ok (.iconst 0, 1) := dk_3 (dk_at dksX1_addAnswer_0 1 rfl rfl)
theorem dX1_addAnswer_2 : decode cX1_addAnswer 2 = .ok (.iload_n 1, 1) := dk_27 (dk_at dksX1_addAnswer_0 2 rfl rfl)
theorem dX1_addAnswer_3 : decode cX1_addAnswer 3 = .ok (.invokevirtual 349, 3) := dk_182 1 93 (dk_at dksX1_addAnswer_0 3 rfl rfl)
theorem dX1_addAnswer_6 : decode cX1_addAnswer 6 = .ok (.ireturn, 1) := dk_172 (dk_at dksX1_addAnswer_0 6 rfl rfl)
/-- PackingDuel.addAnswer(I)I -/
def zb74 (G : zPg) (C : zO) (args : List Value) (Q : zQ) (Y : zY) (σ : zS) : Prop := ∃ (a0 : Nat) (x1 : Int32), args = [.ref a0, .int x1] ∧ (zrc σ (some a0) 0 (fun a4 => zcl C 73 [.ref a4, .int (0 : Int32), .int x1] Y σ (zqI (fun v1 s2 => Q (some (.int v1)) s2))))
set_option maxHeartbeats 4000000 in
theorem wk74 {l : Launch} {g : zG} {d : Nat} {C : zO} (hG : zGk g) (hC : zSound l g d C) {args : List Value} {Q : zQ} {Y : zY} {σ : zS} (hw : zb74 (zpg g) C args Q Y σ) : zMet l g (d + 1) (⟨"PackingDuel", "addAnswer", "(I)I"⟩, Cond.code ⟨"PackingDuel", "addAnswer", "(I)I"⟩ prog_1_method_47_code 2 (Option.some FieldType.int)) args σ Q Y := by
  obtain ⟨a0, x1, rfl, hw⟩ := hw
  refine zof hG (by decide +kernel) [false, false] ⟨rfl, rfl, trivial⟩ (Nat.le_of_ble_eq_true rfl) (ls := [some (va_rf (some a0)), some (.int x1)]) rfl ?_
  intro X hX hR hTb hd1 hd2 hl hg hnm
  subst hl
  subst hg
  have hd : zDep X d := ⟨hd1, hd2⟩
  refine z_aload_n hX dX1_addAnswer_0 rfl (i := 0) rfl ?_
  refine z_iconst hX (v := (0 : Int32)) dX1_addAnswer_1 (by decide) ?_
  refine z_iload_n hX dX1_addAnswer_2 rfl (i := 1) rfl ?_
  obtain ⟨a4, f5, r6, m7, hw⟩ := hw
  refine z_invV hX hd r6 (ci := 0) rfl rfl m7 dX1_addAnswer_3 (hC 73 _ zm73 _ _ _ _ hw) q2134 q2136 qs33 zh1 q2137 q130 zn73 rfl (Nat.le_of_ble_eq_true rfl) (st := []) rfl (zcs8 (Nat.le_of_ble_eq_true rfl)) rfl (zkI (fun v1 s2 hw => ?_)) (zout hX hR hTb)
  exact z_ireturn hX hR dX1_addAnswer_6 rfl hw
abbrev cX1_drop : ByteArray := prog_1_method_48_code
def yX1_drop : MethodName := ⟨RX1, "drop", "(ZI)I"⟩
def dkwX1_drop_1 : List UInt8 := [42, 45, 182, 1, 61, 42, 180, 0, 46, 27, 182, 0, 202, 182, 0, 126, 172]
abbrev dktX1_drop_1 : List UInt8 := dkwX1_drop_1 ++ []
def dkwX1_drop_0 : List UInt8 := [42, 27, 28, 182, 0, 206, 42, 180, 0, 46, 182, 1, 69, 78, 45, 27, 182, 0, 202, 28, 182, 1, 96, 87]
abbrev dktX1_drop_0 : List UInt8 := dkwX1_drop_0 ++ dktX1_drop_1
theorem dksX1_drop_0 : cX1_drop.data.toList.drop 0 = dktX1_drop_0 := by decide +kernel
theorem dksX1_drop_1 : cX1_drop.data.toList.drop 24 = dktX1_drop_1 := dk_seg dksX1_drop_0 24 rfl rfl
theorem dX1_drop_0 : decode cX1_drop 0 = .ok (.aload_n 0, 1) := dk_42 (dk_at dksX1_drop_0 0 rfl rfl)
theorem dX1_drop_1 : decode cX1_drop 1 = .ok (.iload_n 1, 1) := dk_27 (dk_at dksX1_drop_0 1 rfl rfl)
theorem dX1_drop_2 : decode cX1_drop 2 = .ok (.iload_n 2, 1) := dk_28 (dk_at dksX1_drop_0 2 rfl rfl)
theorem dX1_drop_3 : decode cX1_drop 3 = .ok (.invokevirtual 206, 3) := dk_182 0 206 (dk_at dksX1_drop_0 3 rfl rfl)
theorem dX1_drop_6 : decode cX1_drop 6 = .ok (.aload_n 0, 1) := dk_42 (dk_at dksX1_drop_0 6 rfl rfl)
theorem dX1_drop_7 : decode cX1_drop 7 = .ok (.getfield 46, 3) := dk_180 0 46 (dk_at dksX1_drop_0 7 rfl rfl)
theorem dX1_drop_10 : decode cX1_drop 10 = .ok (.invokevirtual 325, 3) := dk_182 1 69 (dk_at dksX1_drop_0 10 rfl rfl)
theorem dX1_drop_13 : decode cX1_drop 13 = .ok (.astore_n 3, 1) := dk_78 (dk_at dksX1_drop_0 13 rfl rfl)
theorem dX1_drop_14 : decode cX1_drop 14 = .ok (.aload_n 3, 1) := dk_45 (dk_at dksX1_drop_0 14 rfl rfl)
theorem dX1_drop_15 : decode cX1_drop 15 = .ok (.iload_n 1, 1) := dk_27 (dk_at dksX1_drop_0 15 rfl rfl)
theorem dX1_drop_16 : decode cX1_drop 16 = .ok (.invokevirtual 202, 3) := dk_182 0 202 (dk_at dksX1_drop_0 16 rfl rfl)
theorem dX1_drop_19 : decode cX1_drop 19 = .ok (.iload_n 2, 1) := dk_28 (dk_at dksX1_drop_0 19 rfl rfl)
theorem dX1_drop_20 : decode cX1_drop 20 = .ok (.invokevirtual 352, 3) := dk_182 1 96 (dk_at dksX1_drop_0 20 rfl rfl)
theorem dX1_drop_23 : decode cX1_drop 23 = .ok (.pop, 1) := dk_87 (dk_at dksX1_drop_0 23 rfl rfl)
theorem dX1_drop_24 : decode cX1_drop 24 = .ok (.aload_n 0, 1) := dk_42 (dk_at dksX1_drop_1 0 rfl rfl)
theorem dX1_drop_25 : decode cX1_drop 25 = .ok (.aload_n 3, 1) := dk_45 (dk_at dksX1_drop_1 1 rfl rfl)
theorem dX1_drop_26 : decode cX1_drop 26 = .ok (.invokevirtual 317, 3) := dk_182 1 61 (dk_at dksX1_drop_1 2 rfl rfl)
theorem dX1_drop_29 : decode cX1_drop 29 = .ok (.aload_n 0, 1) := dk_42 (dk_at dksX1_drop_1 5 rfl rfl)
theorem dX1_drop_30 : decode cX1_drop 30 = .ok (.getfield 46, 3) := dk_180 0 46 (dk_at dksX1_drop_1 6 rfl rfl)
theorem dX1_drop_33 : decode cX1_drop 33 = .ok (.iload_n 1, 1) := dk_27 (dk_at dksX1_drop_1 9 rfl rfl)
theorem dX1_drop_34 : decode cX1_drop 34 = .ok (.invokevirtual 202, 3) := dk_182 0 202 (dk_at dksX1_drop_1 10 rfl rfl)
theorem dX1_drop_37 : decode cX1_drop 37 = .ok (.invokevirtual 126, 3) := dk_182 0 126 (dk_at dksX1_drop_1 13 rfl rfl)
theorem dX1_drop_40 : decode cX1_drop 40 = .ok (.ireturn, 1) := dk_172 (dk_at dksX1_drop_1 16 rfl rfl)
/-- PackingDuel.drop(ZI)I -/
def zb75 (G : zPg) (C : zO) (args : List Value) (Q : zQ) (Y : zY) (σ : zS) : Prop := ∃ (a0 : Nat) (x1 : Int32) (x2 : Int32), args = [.ref a0, .int x1, .int x2] ∧ (zrc σ (some a0) 0 (fun a4 => zcl C 63 [.ref a4, .int x1, .int x2] Y σ (zqV (fun s2 => zgR s2 (some a0) 0 0 (fun v8 => zrc s2 v8 1 (fun a17 => zcl C 105 [.ref a17] Y s2 (zqR (fun v14 s15 => zrc s15 v14 1 (fun a24 => zcl C 108 [.ref a24, .int x1] Y s15 (zqR (fun v21 s22 => zrc s22 v21 2 (fun a31 => zcl C 136 [.ref a31, .int x2] Y s22 (zqR (fun v28 s29 => zrc s29 (some a0) 0 (fun a38 => zcl C 40 [.ref a38, va_rf v14] Y s29 (zqV (fun s36 => zgR s36 (some a0) 0 0 (fun v42 => zrc s36 v42 1 (fun a51 => zcl C 108 [.ref a51, .int x1] Y s36 (zqR (fun v48 s49 => zrc s49 v48 2 (fun a58 => zcl C 128 [.ref a58] Y s49 (zqI (fun v55 s56 => Q (some (.int v55)) s56))))))))))))))))))))))))
set_option maxHeartbeats 4000000 in
theorem wk75 {l : Launch} {g : zG} {d : Nat} {C : zO} (hG : zGk g) (hC : zSound l g d C) {args : List Value} {Q : zQ} {Y : zY} {σ : zS} (hw : zb75 (zpg g) C args Q Y σ) : zMet l g (d + 1) (⟨"PackingDuel", "drop", "(ZI)I"⟩, Cond.code ⟨"PackingDuel", "drop", "(ZI)I"⟩ prog_1_method_48_code 4 (Option.some FieldType.int)) args σ Q Y := by
  obtain ⟨a0, x1, x2, rfl, hw⟩ := hw
  refine zof hG (by decide +kernel) [false, false, false] ⟨rfl, rfl, rfl, trivial⟩ (Nat.le_of_ble_eq_true rfl) (ls := [some (va_rf (some a0)), some (.int x1), some (.int x2), none]) rfl ?_
  intro X hX hR hTb hd1 hd2 hl hg hnm
  subst hl
  subst hg
  have hd : zDep X d := ⟨hd1, hd2⟩
  refine z_aload_n hX dX1_drop_0 rfl (i := 0) rfl ?_
  refine z_iload_n hX dX1_drop_1 rfl (i := 1) rfl ?_
  refine z_iload_n hX dX1_drop_2 rfl (i := 2) rfl ?_
  obtain ⟨a4, f5, r6, m7, hw⟩ := hw
  refine z_invV hX hd r6 (ci := 0) rfl rfl m7 dX1_drop_3 (hC 63 _ zm63 _ _ _ _ hw) q2019 q2021 qs29 zh1 q2022 q130 zn63 rfl (Nat.le_of_ble_eq_true rfl) (st := []) rfl (zcs8 (Nat.le_of_ble_eq_true rfl)) rfl (zkV (fun s2 hw => ?_)) (zout hX hR hTb)
  refine z_aload_n hX dX1_drop_6 rfl (i := 0) rfl ?_
  obtain ⟨a9, f10, v8, r11, m12, e13, hw⟩ := hw
  refine z_get hX zc0 (k := 0) dX1_drop_7 (Nat.le_of_ble_eq_true rfl) (zlk hX q307) r11 m12 e13 ?_
  obtain ⟨a17, f18, r19, m20, hw⟩ := hw
  refine z_invV hX hd r19 (ci := 1) rfl rfl m20 dX1_drop_10 (hC 105 _ zm105 _ _ _ _ hw) q758 q759 q760 zh2 q761 q131 zn105 rfl (Nat.le_of_ble_eq_true rfl) (st := []) rfl (zcs8 (Nat.le_of_ble_eq_true rfl)) rfl (zkR (fun v14 s15 hw => ?_)) (zout hX hR hTb)
  refine z_astore_n hX dX1_drop_13 rfl (i := 3) (Nat.le_of_ble_eq_true rfl) rfl (ls2 := [some (va_rf (some a0)), some (.int x1), some (.int x2), some (va_rf v14)]) rfl ?_
  refine z_aload_n hX dX1_drop_14 rfl (i := 3) rfl ?_
  refine z_iload_n hX dX1_drop_15 rfl (i := 1) rfl ?_
  obtain ⟨a24, f25, r26, m27, hw⟩ := hw
  refine z_invV hX hd r26 (ci := 1) rfl rfl m27 dX1_drop_16 (hC 108 _ zm108 _ _ _ _ hw) q2023 q1532 q1533 zh2 q1534 q131 zn108 rfl (Nat.le_of_ble_eq_true rfl) (st := []) rfl (zcs8 (Nat.le_of_ble_eq_true rfl)) rfl (zkR (fun v21 s22 hw => ?_)) (zout hX hR hTb)
  refine z_iload_n hX dX1_drop_19 rfl (i := 2) rfl ?_
  obtain ⟨a31, f32, r33, m34, hw⟩ := hw
  refine z_invV hX hd r33 (ci := 2) rfl rfl m34 dX1_drop_20 (hC 136 _ zm136 _ _ _ _ hw) q2154 q2103 q2104 zh5 q2105 q134 zn136 rfl (Nat.le_of_ble_eq_true rfl) (st := []) rfl (zcs8 (Nat.le_of_ble_eq_true rfl)) rfl (zkR (fun v28 s29 hw => ?_)) (zout hX hR hTb)
  refine z_pop hX dX1_drop_23 (zc_rf _) ?_
  refine z_aload_n hX dX1_drop_24 rfl (i := 0) rfl ?_
  refine z_aload_n hX dX1_drop_25 rfl (i := 3) rfl ?_
  obtain ⟨a38, f39, r40, m41, hw⟩ := hw
  refine z_invV hX hd r40 (ci := 0) rfl rfl m41 dX1_drop_26 (hC 40 _ zm40 _ _ _ _ hw) q838 q840 qs14 zh1 q841 q130 zn40 rfl (Nat.le_of_ble_eq_true rfl) (st := []) rfl (zcs8 (Nat.le_of_ble_eq_true rfl)) rfl (zkV (fun s36 hw => ?_)) (zout hX hR hTb)
  refine z_aload_n hX dX1_drop_29 rfl (i := 0) rfl ?_
  obtain ⟨a43, f44, v42, r45, m46, e47, hw⟩ := hw
  refine z_get hX zc0 (k := 0) dX1_drop_30 (Nat.le_of_ble_eq_true rfl) (zlk hX q307) r45 m46 e47 ?_
  refine z_iload_n hX dX1_drop_33 rfl (i := 1) rfl ?_
  obtain ⟨a51, f52, r53, m54, hw⟩ := hw
  refine z_invV hX hd r53 (ci := 1) rfl rfl m54 dX1_drop_34 (hC 108 _ zm108 _ _ _ _ hw) q2023 q1532 q1533 zh2 q1534 q131 zn108 rfl (Nat.le_of_ble_eq_true rfl) (st := []) rfl (zcs8 (Nat.le_of_ble_eq_true rfl)) rfl (zkR (fun v48 s49 hw => ?_)) (zout hX hR hTb)
  obtain ⟨a58, f59, r60, m61, hw⟩ := hw
  refine z_invV hX hd r60 (ci := 2) rfl rfl m61 dX1_drop_37 (hC 128 _ zm128 _ _ _ _ hw) q1630 q362 q363 zh5 q364 q134 zn128 rfl (Nat.le_of_ble_eq_true rfl) (st := []) rfl (zcs8 (Nat.le_of_ble_eq_true rfl)) rfl (zkI (fun v55 s56 hw => ?_)) (zout hX hR hTb)
  exact z_ireturn hX hR dX1_drop_40 rfl hw
abbrev cX1_take : ByteArray := prog_1_method_49_code
def yX1_take : MethodName := ⟨RX1, "take", "(I)I"⟩
def dkwX1_take_2 : List UInt8 := [182, 1, 24, 172]
abbrev dktX1_take_2 : List UInt8 := dkwX1_take_2 ++ []
def dkwX1_take_1 : List UInt8 := [42, 180, 0, 46, 182, 1, 69, 78, 45, 27, 182, 1, 100, 42, 45, 182, 1, 61, 42, 180, 0, 46]
abbrev dktX1_take_1 : List UInt8 := dkwX1_take_1 ++ dktX1_take_2
def dkwX1_take_0 : List UInt8 := [42, 27, 182, 0, 166, 42, 180, 0, 46, 27, 182, 1, 37, 61, 28, 158, 0, 9, 19, 1, 99, 28, 100, 172]
abbrev dktX1_take_0 : List UInt8 := dkwX1_take_0 ++ dktX1_take_1
theorem dksX1_take_0 : cX1_take.data.toList.drop 0 = dktX1_take_0 := by decide +kernel
theorem dksX1_take_1 : cX1_take.data.toList.drop 24 = dktX1_take_1 := dk_seg dksX1_take_0 24 rfl rfl
theorem dksX1_take_2 : cX1_take.data.toList.drop 46 = dktX1_take_2 := dk_seg dksX1_take_1 22 rfl rfl
theorem dX1_take_0 : decode cX1_take 0 = .ok (.aload_n 0, 1) := dk_42 (dk_at dksX1_take_0 0 rfl rfl)
theorem dX1_take_1 : decode cX1_take 1 = .ok (.iload_n 1, 1) := dk_27 (dk_at dksX1_take_0 1 rfl rfl)
theorem dX1_take_2 : decode cX1_take 2 = .ok (.invokevirtual 166, 3) := dk_182 0 166 (dk_at dksX1_take_0 2 rfl rfl)
theorem dX1_take_5 : decode cX1_take 5 = .ok (.aload_n 0, 1) := dk_42 (dk_at dksX1_take_0 5 rfl rfl)
theorem dX1_take_6 : decode cX1_take 6 = .ok (.getfield 46, 3) := dk_180 0 46 (dk_at dksX1_take_0 6 rfl rfl)
theorem dX1_take_9 : decode cX1_take 9 = .ok (.iload_n 1, 1) := dk_27 (dk_at dksX1_take_0 9 rfl rfl)
theorem dX1_take_10 : decode cX1_take 10 = .ok (.invokevirtual 293, 3) := dk_182 1 37 (dk_at dksX1_take_0 10 rfl rfl)
theorem dX1_take_13 : decode cX1_take 13 = .ok (.istore_n 2, 1) := dk_61 (dk_at dksX1_take_0 13 rfl rfl)
theorem dX1_take_14 : decode cX1_take 14 = .ok (.iload_n 2, 1) := dk_28 (dk_at dksX1_take_0 14 rfl rfl)
theorem dX1_take_15 : decode cX1_take 15 = .ok (.ifCond .le 9, 3) := dk_158 0 9 (dk_at dksX1_take_0 15 rfl rfl)
theorem dX1_take_18 : decode cX1_take 18 = .ok (.ldc_w 355, 3) := dk_19 1 99 (dk_at dksX1_take_0 18 rfl rfl)
theorem dX1_take_21 : decode cX1_take 21 = .ok (.iload_n 2, 1) := dk_28 (dk_at dksX1_take_0 21 rfl rfl)
theorem dX1_take_22 : decode cX1_take 22 = .ok (.isub, 1) := dk_100 (dk_at dksX1_take_0 22 rfl rfl)
theorem dX1_take_23 : decode cX1_take 23 = .ok (.ireturn, 1) := dk_172 (dk_at dksX1_take_0 23 rfl rfl)
theorem dX1_take_24 : decode cX1_take 24 = .ok (.aload_n 0, 1) := dk_42 (dk_at dksX1_take_1 0 rfl rfl)
theorem dX1_take_25 : decode cX1_take 25 = .ok (.getfield 46, 3) := dk_180 0 46 (dk_at dksX1_take_1 1 rfl rfl)
theorem dX1_take_28 : decode cX1_take 28 = .ok (.invokevirtual 325, 3) := dk_182 1 69 (dk_at dksX1_take_1 4 rfl rfl)
theorem dX1_take_31 : decode cX1_take 31 = .ok (.astore_n 3, 1) := dk_78 (dk_at dksX1_take_1 7 rfl rfl)
theorem dX1_take_32 : decode cX1_take 32 = .ok (.aload_n 3, 1) := dk_45 (dk_at dksX1_take_1 8 rfl rfl)
theorem dX1_take_33 : decode cX1_take 33 = .ok (.iload_n 1, 1) := dk_27 (dk_at dksX1_take_1 9 rfl rfl)
theorem dX1_take_34 : decode cX1_take 34 = .ok (.invokevirtual 356, 3) := dk_182 1 100 (dk_at dksX1_take_1 10 rfl rfl)
theorem dX1_take_37 : decode cX1_take 37 = .ok (.aload_n 0, 1) := dk_42 (dk_at dksX1_take_1 13 rfl rfl)
theorem dX1_take_38 : decode cX1_take 38 = .ok (.aload_n 3, 1) := dk_45 (dk_at dksX1_take_1 14 rfl rfl)
theorem dX1_take_39 : decode cX1_take 39 = .ok (.invokevirtual 317, 3) := dk_182 1 61 (dk_at dksX1_take_1 15 rfl rfl)
theorem dX1_take_42 : decode cX1_take 42 = .ok (.aload_n 0, 1) := dk_42 (dk_at dksX1_take_1 18 rfl rfl)
theorem dX1_take_43 : decode cX1_take 43 = .ok (.getfield 46, 3) := dk_180 0 46 (dk_at dksX1_take_1 19 rfl rfl)
theorem dX1_take_46 : decode cX1_take 46 = .ok (.invokevirtual 280, 3) := dk_182 1 24 (dk_at dksX1_take_2 0 rfl rfl)
theorem dX1_take_49 : decode cX1_take 49 = .ok (.ireturn, 1) := dk_172 (dk_at dksX1_take_2 3 rfl rfl)
/-- PackingDuel.take(I)I -/
def zb76 (G : zPg) (C : zO) (args : List Value) (Q : zQ) (Y : zY) (σ : zS) : Prop := ∃ (a0 : Nat) (x1 : Int32), args = [.ref a0, .int x1] ∧ (zrc σ (some a0) 0 (fun a4 => zcl C 56 [.ref a4, .int x1] Y σ (zqV (fun s2 => zgR s2 (some a0) 0 0 (fun v8 => zrc s2 v8 1 (fun a17 => zcl C 111 [.ref a17, .int x1] Y s2 (zqI (fun v14 s15 => ((v14 ≤ 0) → zgR s15 (some a0) 0 0 (fun v22 => zrc s15 v22 1 (fun a31 => zcl C 105 [.ref a31] Y s15 (zqR (fun v28 s29 => zrc s29 v28 1 (fun a38 => zcl C 106 [.ref a38, .int x1] Y s29 (zqV (fun s36 => zrc s36 (some a0) 0 (fun a45 => zcl C 40 [.ref a45, va_rf v28] Y s36 (zqV (fun s43 => zgR s43 (some a0) 0 0 (fun v49 => zrc s43 v49 1 (fun a58 => zcl C 97 [.ref a58] Y s43 (zqI (fun v55 s56 => Q (some (.int v55)) s56))))))))))))))) ∧ ((¬ v14 ≤ 0) → Q (some (.int ((-1000000000 : Int32) - v14))) s15)))))))))
set_option maxHeartbeats 4000000 in
theorem wk76 {l : Launch} {g : zG} {d : Nat} {C : zO} (hG : zGk g) (hC : zSound l g d C) {args : List Value} {Q : zQ} {Y : zY} {σ : zS} (hw : zb76 (zpg g) C args Q Y σ) : zMet l g (d + 1) (⟨"PackingDuel", "take", "(I)I"⟩, Cond.code ⟨"PackingDuel", "take", "(I)I"⟩ prog_1_method_49_code 4 (Option.some FieldType.int)) args σ Q Y := by
  obtain ⟨a0, x1, rfl, hw⟩ := hw
  refine zof hG (by decide +kernel) [false, false] ⟨rfl, rfl, trivial⟩ (Nat.le_of_ble_eq_true rfl) (ls := [some (va_rf (some a0)), some (.int x1), none, none]) rfl ?_
  intro X hX hR hTb hd1 hd2 hl hg hnm
  subst hl
  subst hg
  have hd : zDep X d := ⟨hd1, hd2⟩
  refine z_aload_n hX dX1_take_0 rfl (i := 0) rfl ?_
  refine z_iload_n hX dX1_take_1 rfl (i := 1) rfl ?_
  obtain ⟨a4, f5, r6, m7, hw⟩ := hw
  refine z_invV hX hd r6 (ci := 0) rfl rfl m7 dX1_take_2 (hC 56 _ zm56 _ _ _ _ hw) q1652 q1654 qs25 zh1 q1655 q130 zn56 rfl (Nat.le_of_ble_eq_true rfl) (st := []) rfl (zcs8 (Nat.le_of_ble_eq_true rfl)) rfl (zkV (fun s2 hw => ?_)) (zout hX hR hTb)
  refine z_aload_n hX dX1_take_5 rfl (i := 0) rfl ?_
  obtain ⟨a9, f10, v8, r11, m12, e13, hw⟩ := hw
  refine z_get hX zc0 (k := 0) dX1_take_6 (Nat.le_of_ble_eq_true rfl) (zlk hX q307) r11 m12 e13 ?_
  refine z_iload_n hX dX1_take_9 rfl (i := 1) rfl ?_
  obtain ⟨a17, f18, r19, m20, hw⟩ := hw
  refine z_invV hX hd r19 (ci := 1) rfl rfl m20 dX1_take_10 (hC 111 _ zm111 _ _ _ _ hw) q2060 q2061 q2062 zh2 q2063 q131 zn111 rfl (Nat.le_of_ble_eq_true rfl) (st := []) rfl (zcs8 (Nat.le_of_ble_eq_true rfl)) rfl (zkI (fun v14 s15 hw => ?_)) (zout hX hR hTb)
  refine z_istore_n hX dX1_take_13 rfl (i := 2) (Nat.le_of_ble_eq_true rfl) rfl (ls2 := [some (va_rf (some a0)), some (.int x1), some (.int v14), none]) rfl ?_
  refine z_iload_n hX dX1_take_14 rfl (i := 2) rfl ?_
  refine z_if_le hX dX1_take_15 (tgt := 24) rfl (fun c21 => ?_) (fun c21 => ?_)
  · have hw := hw.1 c21
    refine z_aload_n hX dX1_take_24 rfl (i := 0) rfl ?_
    obtain ⟨a23, f24, v22, r25, m26, e27, hw⟩ := hw
    refine z_get hX zc0 (k := 0) dX1_take_25 (Nat.le_of_ble_eq_true rfl) (zlk hX q307) r25 m26 e27 ?_
    obtain ⟨a31, f32, r33, m34, hw⟩ := hw
    refine z_invV hX hd r33 (ci := 1) rfl rfl m34 dX1_take_28 (hC 105 _ zm105 _ _ _ _ hw) q758 q759 q760 zh2 q761 q131 zn105 rfl (Nat.le_of_ble_eq_true rfl) (st := []) rfl (zcs8 (Nat.le_of_ble_eq_true rfl)) rfl (zkR (fun v28 s29 hw => ?_)) (zout hX hR hTb)
    refine z_astore_n hX dX1_take_31 rfl (i := 3) (Nat.le_of_ble_eq_true rfl) rfl (ls2 := [some (va_rf (some a0)), some (.int x1), some (.int v14), some (va_rf v28)]) rfl ?_
    refine z_aload_n hX dX1_take_32 rfl (i := 3) rfl ?_
    refine z_iload_n hX dX1_take_33 rfl (i := 1) rfl ?_
    obtain ⟨a38, f39, r40, m41, hw⟩ := hw
    refine z_invV hX hd r40 (ci := 1) rfl rfl m41 dX1_take_34 (hC 106 _ zm106 _ _ _ _ hw) q950 q951 q952 zh2 q953 q131 zn106 rfl (Nat.le_of_ble_eq_true rfl) (st := []) rfl (zcs8 (Nat.le_of_ble_eq_true rfl)) rfl (zkV (fun s36 hw => ?_)) (zout hX hR hTb)
    refine z_aload_n hX dX1_take_37 rfl (i := 0) rfl ?_
    refine z_aload_n hX dX1_take_38 rfl (i := 3) rfl ?_
    obtain ⟨a45, f46, r47, m48, hw⟩ := hw
    refine z_invV hX hd r47 (ci := 0) rfl rfl m48 dX1_take_39 (hC 40 _ zm40 _ _ _ _ hw) q838 q840 qs14 zh1 q841 q130 zn40 rfl (Nat.le_of_ble_eq_true rfl) (st := []) rfl (zcs8 (Nat.le_of_ble_eq_true rfl)) rfl (zkV (fun s43 hw => ?_)) (zout hX hR hTb)
    refine z_aload_n hX dX1_take_42 rfl (i := 0) rfl ?_
    obtain ⟨a50, f51, v49, r52, m53, e54, hw⟩ := hw
    refine z_get hX zc0 (k := 0) dX1_take_43 (Nat.le_of_ble_eq_true rfl) (zlk hX q307) r52 m53 e54 ?_
    obtain ⟨a58, f59, r60, m61, hw⟩ := hw
    refine z_invV hX hd r60 (ci := 1) rfl rfl m61 dX1_take_46 (hC 97 _ zm97 _ _ _ _ hw) q2052 q646 q647 zh2 q648 q131 zn97 rfl (Nat.le_of_ble_eq_true rfl) (st := []) rfl (zcs8 (Nat.le_of_ble_eq_true rfl)) rfl (zkI (fun v55 s56 hw => ?_)) (zout hX hR hTb)
    exact z_ireturn hX hR dX1_take_49 rfl hw
  · have hw := hw.2 c21
    refine z_ldcw hX dX1_take_18 q2162 ?_
    refine z_iload_n hX dX1_take_21 rfl (i := 2) rfl ?_
    refine z_isub hX dX1_take_22 ?_
    exact z_ireturn hX hR dX1_take_23 rfl hw
abbrev cX1_play : ByteArray := prog_1_method_51_code
def yX1_play : MethodName := ⟨RX1, "play", "(I)I"⟩
def dkwX1_play_2 : List UInt8 := [42, 44, 182, 1, 61, 29, 172]
abbrev dktX1_play_2 : List UInt8 := dkwX1_play_2 ++ []
def dkwX1_play_1 : List UInt8 := [162, 0, 24, 44, 182, 1, 27, 154, 0, 17, 44, 44, 182, 1, 43, 182, 1, 100, 132, 3, 1, 167, 255, 233]
abbrev dktX1_play_1 : List UInt8 := dkwX1_play_1 ++ dktX1_play_2
def dkwX1_play_0 : List UInt8 := [27, 133, 10, 20, 1, 103, 184, 0, 84, 184, 0, 88, 42, 180, 0, 46, 182, 1, 69, 77, 3, 62, 29, 27]
abbrev dktX1_play_0 : List UInt8 := dkwX1_play_0 ++ dktX1_play_1
theorem dksX1_play_0 : cX1_play.data.toList.drop 0 = dktX1_play_0 := by decide +kernel
theorem dksX1_play_1 : cX1_play.data.toList.drop 24 = dktX1_play_1 := dk_seg dksX1_play_0 24 rfl rfl
theorem dksX1_play_2 : cX1_play.data.toList.drop 48 = dktX1_play_2 := dk_seg dksX1_play_1 24 rfl rfl
theorem dX1_play_0 : decode cX1_play 0 = .ok (.iload_n 1, 1) := dk_27 (dk_at dksX1_play_0 0 rfl rfl)
theorem dX1_play_1 : decode cX1_play 1 = .ok (.i2l, 1) := dk_133 (dk_at dksX1_play_0 1 rfl rfl)
theorem dX1_play_2 : decode cX1_play 2 = .ok (.lconst 1, 1) := dk_10 (dk_at dksX1_play_0 2 rfl rfl)
theorem dX1_play_3 : decode cX1_play 3 = .ok (.ldc2_w 359, 3) := dk_20 1 103 (dk_at dksX1_play_0 3 rfl rfl)
theorem dX1_play_6 : decode cX1_play 6 = .ok (.invokestatic 84, 3) := dk_184 0 84 (dk_at dksX1_play_0 6 rfl rfl)
theorem dX1_play_9 : decode cX1_play 9 = .ok (.invokestatic 88, 3) := dk_184 0 88 (dk_at dksX1_play_0 9 rfl rfl)
theorem dX1_play_12 : decode cX1_play 12 = .ok (.aload_n 0, 1) := dk_42 (dk_at dksX1_play_0 12 rfl rfl)
theorem dX1_play_13 : decode cX1_play 13 = .ok (.getfield 46, 3) := dk_180 0 46 (dk_at dksX1_play_0 13 rfl rfl)
theorem dX1_play_16 : decode cX1_play 16 = .ok (.invokevirtual 325, 3) := dk_182 1 69 (dk_at dksX1_play_0 16 rfl rfl)
theorem dX1_play_19 : decode cX1_play 19 = .ok (.astore_n 2, 1) := dk_77 (dk_at dksX1_play_0 19 rfl rfl)
theorem dX1_play_20 : decode cX1_play 20 = .ok (.iconst 0, 1) := dk_3 (dk_at dksX1_play_0 20 rfl rfl)
theorem dX1_play_21 : decode cX1_play 21 = .ok (.istore_n 3, 1) := dk_62 (dk_at dksX1_play_0 21 rfl rfl)
theorem dX1_play_22 : decode cX1_play 22 = .ok (.iload_n 3, 1) := dk_29 (dk_at dksX1_play_0 22 rfl rfl)
theorem dX1_play_23 : decode cX1_play 23 = .ok (.iload_n 1, 1) := dk_27 (dk_at dksX1_play_0 23 rfl rfl)
theorem dX1_play_24 : decode cX1_play 24 = .ok (.if_icmp .ge 24, 3) := dk_162 0 24 (dk_at dksX1_play_1 0 rfl rfl)
theorem dX1_play_27 : decode cX1_play 27 = .ok (.aload_n 2, 1) := dk_44 (dk_at dksX1_play_1 3 rfl rfl)
theorem dX1_play_28 : decode cX1_play 28 = .ok (.invokevirtual 283, 3) := dk_182 1 27 (dk_at dksX1_play_1 4 rfl rfl)
theorem dX1_play_31 : decode cX1_play 31 = .ok (.ifCond .ne 17, 3) := dk_154 0 17 (dk_at dksX1_play_1 7 rfl rfl)
theorem dX1_play_34 : decode cX1_play 34 = .ok (.aload_n 2, 1) := dk_44 (dk_at dksX1_play_1 10 rfl rfl)
theorem dX1_play_35 : decode cX1_play 35 = .ok (.aload_n 2, 1) := dk_44 (dk_at dksX1_play_1 11 rfl rfl)
theorem dX1_play_36 : decode cX1_play 36 = .ok (.invokevirtual 299, 3) := dk_182 1 43 (dk_at dksX1_play_1 12 rfl rfl)
theorem dX1_play_39 : decode cX1_play 39 = .ok (.invokevirtual 356, 3) := dk_182 1 100 (dk_at dksX1_play_1 15 rfl rfl)
theorem dX1_play_42 : decode cX1_play 42 = .ok (.iinc 3 1, 3) := dk_132 3 1 (dk_at dksX1_play_1 18 rfl rfl)
theorem dX1_play_45 : decode cX1_play 45 = .ok (.goto (-23), 3) := dk_167 255 233 (dk_at dksX1_play_1 21 rfl rfl)
theorem dX1_play_48 : decode cX1_play 48 = .ok (.aload_n 0, 1) := dk_42 (dk_at dksX1_play_2 0 rfl rfl)
theorem dX1_play_49 : decode cX1_play 49 = .ok (.aload_n 2, 1) := dk_44 (dk_at dksX1_play_2 1 rfl rfl)
theorem dX1_play_50 : decode cX1_play 50 = .ok (.invokevirtual 317, 3) := dk_182 1 61 (dk_at dksX1_play_2 2 rfl rfl)
theorem dX1_play_53 : decode cX1_play 53 = .ok (.iload_n 3, 1) := dk_29 (dk_at dksX1_play_2 5 rfl rfl)
theorem dX1_play_54 : decode cX1_play 54 = .ok (.ireturn, 1) := dk_172 (dk_at dksX1_play_2 6 rfl rfl)
/-- PackingDuel.play(I)I -/
def zb77 (G : zPg) (C : zO) (args : List Value) (Q : zQ) (Y : zY) (σ : zS) : Prop := ∃ (a0 : Nat) (x1 : Int32), args = [.ref a0, .int x1] ∧ (zcl C 48 [.long x1.toInt64, .long (1 : Int64), .long (30 : Int64)] Y σ (zqI (fun v1 s2 => zcl C 51 [.int v1] Y s2 (zqV (fun s5 => zgR s5 (some a0) 0 0 (fun v7 => zrc s5 v7 1 (fun a16 => zcl C 105 [.ref a16] Y s5 (zqR (fun v13 s14 => ∃ n, zIt (fun _ _ => False) (fun rec22 (p20 : Int32) (s21 : zS) => zJ (fun  (s23 : zS) => zrc s23 (some a0) 0 (fun a28 => zcl C 40 [.ref a28, va_rf v13] Y s23 (zqV (fun s26 => Q (some (.int p20)) s26)))) (fun (j24 : zS → Prop) => ((x1 ≤ p20) → j24 s21) ∧ ((¬ x1 ≤ p20) → zrc s21 v13 1 (fun a36 => zcl C 101 [.ref a36] Y s21 (zqI (fun v33 s34 => ((¬ v33 = 0) → j24 s34) ∧ ((v33 = 0) → zrc s34 v13 1 (fun a44 => zcl C 100 [.ref a44] Y s34 (zqI (fun v41 s42 => zrc s42 v13 1 (fun a51 => zcl C 106 [.ref a51, .int v41] Y s42 (zqV (fun s49 => (∀ v55 : Int32, v55 = p20 + (1 : Int32) → rec22 v55 s49)))))))))))))) n (0 : Int32) s14)))))))))
set_option maxHeartbeats 4000000 in
theorem wk77 {l : Launch} {g : zG} {d : Nat} {C : zO} (hG : zGk g) (hC : zSound l g d C) {args : List Value} {Q : zQ} {Y : zY} {σ : zS} (hw : zb77 (zpg g) C args Q Y σ) : zMet l g (d + 1) (⟨"PackingDuel", "play", "(I)I"⟩, Cond.code ⟨"PackingDuel", "play", "(I)I"⟩ prog_1_method_51_code 4 (Option.some FieldType.int)) args σ Q Y := by
  obtain ⟨a0, x1, rfl, hw⟩ := hw
  refine zof hG (by decide +kernel) [false, false] ⟨rfl, rfl, trivial⟩ (Nat.le_of_ble_eq_true rfl) (ls := [some (va_rf (some a0)), some (.int x1), none, none]) rfl ?_
  intro X hX hR hTb hd1 hd2 hl hg hnm
  subst hl
  subst hg
  have hd : zDep X d := ⟨hd1, hd2⟩
  refine z_iload_n hX dX1_play_0 rfl (i := 1) rfl ?_
  refine z_i2l hX dX1_play_1 ?_
  refine z_lconst hX (v := (1 : Int64)) dX1_play_2 (by decide) ?_
  refine z_ldc2 hX dX1_play_3 q2170 ?_
  refine z_invS hX hd dX1_play_6 (hC 48 _ zm48 _ _ _ _ hw) q1014 q1015 zh1 q1016 q130 zn48 rfl (Nat.le_of_ble_eq_true rfl) (st := []) rfl (zcs8 (Nat.le_of_ble_eq_true rfl)) rfl (zkI (fun v1 s2 hw => ?_)) (zout hX hR hTb)
  refine z_invS hX hd dX1_play_9 (hC 51 _ zm51 _ _ _ _ hw) q1067 q1068 zh1 q1069 q130 zn51 rfl (Nat.le_of_ble_eq_true rfl) (st := []) rfl (zcs8 (Nat.le_of_ble_eq_true rfl)) rfl (zkV (fun s5 hw => ?_)) (zout hX hR hTb)
  refine z_aload_n hX dX1_play_12 rfl (i := 0) rfl ?_
  obtain ⟨a8, f9, v7, r10, m11, e12, hw⟩ := hw
  refine z_get hX zc0 (k := 0) dX1_play_13 (Nat.le_of_ble_eq_true rfl) (zlk hX q307) r10 m11 e12 ?_
  obtain ⟨a16, f17, r18, m19, hw⟩ := hw
  refine z_invV hX hd r18 (ci := 1) rfl rfl m19 dX1_play_16 (hC 105 _ zm105 _ _ _ _ hw) q758 q759 q760 zh2 q761 q131 zn105 rfl (Nat.le_of_ble_eq_true rfl) (st := []) rfl (zcs8 (Nat.le_of_ble_eq_true rfl)) rfl (zkR (fun v13 s14 hw => ?_)) (zout hX hR hTb)
  refine z_astore_n hX dX1_play_19 rfl (i := 2) (Nat.le_of_ble_eq_true rfl) rfl (ls2 := [some (va_rf (some a0)), some (.int x1), some (va_rf v13), none]) rfl ?_
  refine z_iconst hX (v := (0 : Int32)) dX1_play_20 (by decide) ?_
  refine z_istore_n hX dX1_play_21 rfl (i := 3) (Nat.le_of_ble_eq_true rfl) (zc_rf _) (ls2 := [some (va_rf (some a0)), some (.int x1), some (va_rf v13), some (.int (0 : Int32))]) rfl ?_
  obtain ⟨n57, hw⟩ := hw
  refine zIt_w (P := fun (j : Int32 → zS → Prop) => ∀ (p20 : Int32) (s21 : zS), j p20 s21 → zW X s21 22 [some (va_rf (some a0)), some (.int x1), some (va_rf v13), some (.int p20)] []) (fun _ _ h => h.elim) (fun rec22 hrec22 p20 s21 hw => ?_) n57 _ _ hw
  refine z_iload_n hX dX1_play_22 rfl (i := 3) rfl ?_
  refine z_iload_n hX dX1_play_23 rfl (i := 1) rfl ?_
  refine zJ_w (P := fun (j : zS → Prop) => ∀  (s23 : zS), j  s23 → zW X s23 48 [some (va_rf (some a0)), none, some (va_rf v13), some (.int p20)] []) hw (fun  s23 hw => ?_) (fun j24 hj24 hw => ?_)
  · refine z_aload_n hX dX1_play_48 rfl (i := 0) rfl ?_
    refine z_aload_n hX dX1_play_49 rfl (i := 2) rfl ?_
    obtain ⟨a28, f29, r30, m31, hw⟩ := hw
    refine z_invV hX hd r30 (ci := 0) rfl rfl m31 dX1_play_50 (hC 40 _ zm40 _ _ _ _ hw) q838 q840 qs14 zh1 q841 q130 zn40 rfl (Nat.le_of_ble_eq_true rfl) (st := []) rfl (zcs8 (Nat.le_of_ble_eq_true rfl)) rfl (zkV (fun s26 hw => ?_)) (zout hX hR hTb)
    refine z_iload_n hX dX1_play_53 rfl (i := 3) rfl ?_
    exact z_ireturn hX hR dX1_play_54 rfl hw
  · refine z_icmp_ge hX dX1_play_24 (tgt := 48) rfl (fun c32 => ?_) (fun c32 => ?_)
    · have hw := hw.1 c32
      refine z_sub (ls' := [some (va_rf (some a0)), none, some (va_rf v13), some (.int p20)]) (zsS (zsN (zsS (zsS (zs0))))) ?_
      exact hj24  _ hw
    · have hw := hw.2 c32
      refine z_aload_n hX dX1_play_27 rfl (i := 2) rfl ?_
      obtain ⟨a36, f37, r38, m39, hw⟩ := hw
      refine z_invV hX hd r38 (ci := 1) rfl rfl m39 dX1_play_28 (hC 101 _ zm101 _ _ _ _ hw) q949 q722 q723 zh2 q724 q131 zn101 rfl (Nat.le_of_ble_eq_true rfl) (st := []) rfl (zcs8 (Nat.le_of_ble_eq_true rfl)) rfl (zkI (fun v33 s34 hw => ?_)) (zout hX hR hTb)
      refine z_if_ne hX dX1_play_31 (tgt := 48) rfl (fun c40 => ?_) (fun c40 => ?_)
      · have hw := hw.1 c40
        refine z_sub (ls' := [some (va_rf (some a0)), none, some (va_rf v13), some (.int p20)]) (zsS (zsN (zsS (zsS (zs0))))) ?_
        exact hj24  _ hw
      · have hw := hw.2 c40
        refine z_aload_n hX dX1_play_34 rfl (i := 2) rfl ?_
        refine z_aload_n hX dX1_play_35 rfl (i := 2) rfl ?_
        obtain ⟨a44, f45, r46, m47, hw⟩ := hw
        refine z_invV hX hd r46 (ci := 1) rfl rfl m47 dX1_play_36 (hC 100 _ zm100 _ _ _ _ hw) q717 q718 q719 zh2 q720 q131 zn100 rfl (Nat.le_of_ble_eq_true rfl) (st := [va_rf v13]) rfl (zcs8 (Nat.le_of_ble_eq_true rfl)) rfl (zkI (fun v41 s42 hw => ?_)) (zout hX hR hTb)
        obtain ⟨a51, f52, r53, m54, hw⟩ := hw
        refine z_invV hX hd r53 (ci := 1) rfl rfl m54 dX1_play_39 (hC 106 _ zm106 _ _ _ _ hw) q950 q951 q952 zh2 q953 q131 zn106 rfl (Nat.le_of_ble_eq_true rfl) (st := []) rfl (zcs8 (Nat.le_of_ble_eq_true rfl)) rfl (zkV (fun s49 hw => ?_)) (zout hX hR hTb)
        obtain ⟨v55, e56⟩ : ∃ y : Int32, y = p20 + (1 : Int32) := ⟨_, rfl⟩
        refine z_iinc hX dX1_play_42 (i := 3) (v := v55) rfl (by rw [e56]; rfl) (Nat.le_of_ble_eq_true rfl) (zc_rf _) (ls2 := [some (va_rf (some a0)), some (.int x1), some (va_rf v13), some (.int v55)]) rfl ?_
        have hw := hw v55 e56
        refine z_goto hX dX1_play_45 (tgt := 22) rfl ?_
        exact hrec22 _ _ hw
abbrev cX1_format : ByteArray := prog_1_method_57_code
def yX1_format : MethodName := ⟨RX1, "format", "(I)I"⟩
def dkwX1_format_4 : List UInt8 := [182, 1, 124, 87, 42, 45, 182, 1, 127, 181, 0, 67, 42, 180, 0, 67, 182, 1, 131, 172]
abbrev dktX1_format_4 : List UInt8 := dkwX1_format_4 ++ []
def dkwX1_format_3 : List UInt8 := [182, 1, 121, 87, 132, 4, 1, 167, 255, 203, 45, 16, 32, 182, 1, 121, 42, 180, 0, 46, 27, 182, 0, 191]
abbrev dktX1_format_3 : List UInt8 := dkwX1_format_3 ++ dktX1_format_4
def dkwX1_format_2 : List UInt8 := [153, 0, 8, 16, 80, 167, 0, 19, 28, 21, 4, 184, 1, 117, 153, 0, 8, 16, 82, 167, 0, 5, 16, 46]
abbrev dktX1_format_2 : List UInt8 := dkwX1_format_2 ++ dktX1_format_3
def dkwX1_format_1 : List UInt8 := [54, 4, 21, 4, 42, 180, 0, 46, 180, 0, 123, 182, 0, 126, 162, 0, 44, 45, 27, 21, 4, 184, 1, 117]
abbrev dktX1_format_1 : List UInt8 := dkwX1_format_1 ++ dktX1_format_2
def dkwX1_format_0 : List UInt8 := [42, 27, 182, 0, 184, 42, 180, 0, 46, 27, 182, 0, 187, 61, 187, 1, 114, 89, 183, 1, 116, 78, 3]
abbrev dktX1_format_0 : List UInt8 := dkwX1_format_0 ++ dktX1_format_1
theorem dksX1_format_0 : cX1_format.data.toList.drop 0 = dktX1_format_0 := by decide +kernel
theorem dksX1_format_1 : cX1_format.data.toList.drop 23 = dktX1_format_1 := dk_seg dksX1_format_0 23 rfl rfl
theorem dksX1_format_2 : cX1_format.data.toList.drop 47 = dktX1_format_2 := dk_seg dksX1_format_1 24 rfl rfl
theorem dksX1_format_3 : cX1_format.data.toList.drop 71 = dktX1_format_3 := dk_seg dksX1_format_2 24 rfl rfl
theorem dksX1_format_4 : cX1_format.data.toList.drop 95 = dktX1_format_4 := dk_seg dksX1_format_3 24 rfl rfl
theorem dX1_format_0 : decode cX1_format 0 = .ok (.aload_n 0, 1) := dk_42 (dk_at dksX1_format_0 0 rfl rfl)
theorem dX1_format_1 : decode cX1_format 1 = .ok (.iload_n 1, 1) := dk_27 (dk_at dksX1_format_0 1 rfl rfl)
theorem dX1_format_2 : decode cX1_format 2 = .ok (.invokevirtual 184, 3) := dk_182 0 184 (dk_at dksX1_format_0 2 rfl rfl)
theorem dX1_format_5 : decode cX1_format 5 = .ok (.aload_n 0, 1) := dk_42 (dk_at dksX1_format_0 5 rfl rfl)
theorem dX1_format_6 : decode cX1_format 6 = .ok (.getfield 46, 3) := dk_180 0 46 (dk_at dksX1_format_0 6 rfl rfl)
theorem dX1_format_9 : decode cX1_format 9 = .ok (.iload_n 1, 1) := dk_27 (dk_at dksX1_format_0 9 rfl rfl)
theorem dX1_format_10 : decode cX1_format 10 = .ok (.invokevirtual 187, 3) := dk_182 0 187 (dk_at dksX1_format_0 10 rfl rfl)
theorem dX1_format_13 : decode cX1_format 13 = .ok (.istore_n 2, 1) := dk_61 (dk_at dksX1_format_0 13 rfl rfl)
theorem dX1_format_14 : decode cX1_format 14 = .ok (.new 370, 3) := dk_187 1 114 (dk_at dksX1_format_0 14 rfl rfl)
theorem dX1_format_17 : decode cX1_format 17 = .ok (.dup, 1) := dk_89 (dk_at dksX1_format_0 17 rfl rfl)
theorem dX1_format_18 : decode cX1_format 18 = .ok (.invokespecial 372, 3) := dk_183 1 116 (dk_at dksX1_format_0 18 rfl rfl)
theorem dX1_format_21 : decode cX1_format 21 = .ok (.astore_n 3, 1) := dk_78 (dk_at dksX1_format_0 21 rfl rfl)
theorem dX1_format_22 : decode cX1_format 22 = .ok (.iconst 0, 1) := dk_3 (dk_at dksX1_format_0 22 rfl rfl)
theorem dX1_format_23 : decode cX1_format 23 = .ok (.istore 4, 2) := dk_54 4 (dk_at dksX1_format_1 0 rfl rfl)
theorem dX1_format_25 : decode cX1_format 25 = .ok (.iload 4, 2) := dk_21 4 (dk_at dksX1_format_1 2 rfl rfl)
theorem dX1_format_27 : decode cX1_format 27 = .ok (.aload_n 0, 1) := dk_42 (dk_at dksX1_format_1 4 rfl rfl)
theorem dX1_format_28 : decode cX1_format 28 = .ok (.getfield 46, 3) := dk_180 0 46 (dk_at dksX1_format_1 5 rfl rfl)
theorem dX1_format_31 : decode cX1_format 31 = .ok (.getfield 123, 3) := dk_180 0 123 (dk_at dksX1_format_1 8 rfl rfl)
theorem dX1_format_34 : decode cX1_format 34 = .ok (.invokevirtual 126, 3) := dk_182 0 126 (dk_at dksX1_format_1 11 rfl rfl)
theorem dX1_format_37 : decode cX1_format 37 = .ok (.if_icmp .ge 44, 3) := dk_162 0 44 (dk_at dksX1_format_1 14 rfl rfl)
theorem dX1_format_40 : decode cX1_format 40 = .ok (.aload_n 3, 1) := dk_45 (dk_at dksX1_format_1 17 rfl rfl)
theorem dX1_format_41 : decode cX1_format 41 = .ok (.iload_n 1, 1) := dk_27 (dk_at dksX1_format_1 18 rfl rfl)
theorem dX1_format_42 : decode cX1_format 42 = .ok (.iload 4, 2) := dk_21 4 (dk_at dksX1_format_1 19 rfl rfl)
theorem dX1_format_44 : decode cX1_format 44 = .ok (.invokestatic 373, 3) := dk_184 1 117 (dk_at dksX1_format_1 21 rfl rfl)
theorem dX1_format_47 : decode cX1_format 47 = .ok (.ifCond .eq 8, 3) := dk_153 0 8 (dk_at dksX1_format_2 0 rfl rfl)
theorem dX1_format_50 : decode cX1_format 50 = .ok (.bipush 80, 2) := dk_16 80 (dk_at dksX1_format_2 3 rfl rfl)
theorem dX1_format_52 : decode cX1_format 52 = .ok (.goto 19, 3) := dk_167 0 19 (dk_at dksX1_format_2 5 rfl rfl)
theorem dX1_format_55 : decode cX1_format 55 = .ok (.iload_n 2, 1) := dk_28 (dk_at dksX1_format_2 8 rfl rfl)
theorem dX1_format_56 : decode cX1_format 56 = .ok (.iload 4, 2) := dk_21 4 (dk_at dksX1_format_2 9 rfl rfl)
theorem dX1_format_58 : decode cX1_format 58 = .ok (.invokestatic 373, 3) := dk_184 1 117 (dk_at dksX1_format_2 11 rfl rfl)
theorem dX1_format_61 : decode cX1_format 61 = .ok (.ifCond .eq 8, 3) := dk_153 0 8 (dk_at dksX1_format_2 14 rfl rfl)
theorem dX1_format_64 : decode cX1_format 64 = .ok (.bipush 82, 2) := dk_16 82 (dk_at dksX1_format_2 17 rfl rfl)
theorem dX1_format_66 : decode cX1_format 66 = .ok (.goto 5, 3) := dk_167 0 5 (dk_at dksX1_format_2 19 rfl rfl)
theorem dX1_format_69 : decode cX1_format 69 = .ok (.bipush 46, 2) := dk_16 46 (dk_at dksX1_format_2 22 rfl rfl)
theorem dX1_format_71 : decode cX1_format 71 = .ok (.invokevirtual 377, 3) := dk_182 1 121 (dk_at dksX1_format_3 0 rfl rfl)
theorem dX1_format_74 : decode cX1_format 74 = .ok (.pop, 1) := dk_87 (dk_at dksX1_format_3 3 rfl rfl)
theorem dX1_format_75 : decode cX1_format 75 = .ok (.iinc 4 1, 3) := dk_132 4 1 (dk_at dksX1_format_3 4 rfl rfl)
theorem dX1_format_78 : decode cX1_format 78 = .ok (.goto (-53), 3) := dk_167 255 203 (dk_at dksX1_format_3 7 rfl rfl)
theorem dX1_format_81 : decode cX1_format 81 = .ok (.aload_n 3, 1) := dk_45 (dk_at dksX1_format_3 10 rfl rfl)
theorem dX1_format_82 : decode cX1_format 82 = .ok (.bipush 32, 2) := dk_16 32 (dk_at dksX1_format_3 11 rfl rfl)
theorem dX1_format_84 : decode cX1_format 84 = .ok (.invokevirtual 377, 3) := dk_182 1 121 (dk_at dksX1_format_3 13 rfl rfl)
theorem dX1_format_87 : decode cX1_format 87 = .ok (.aload_n 0, 1) := dk_42 (dk_at dksX1_format_3 16 rfl rfl)
theorem dX1_format_88 : decode cX1_format 88 = .ok (.getfield 46, 3) := dk_180 0 46 (dk_at dksX1_format_3 17 rfl rfl)
theorem dX1_format_91 : decode cX1_format 91 = .ok (.iload_n 1, 1) := dk_27 (dk_at dksX1_format_3 20 rfl rfl)
theorem dX1_format_92 : decode cX1_format 92 = .ok (.invokevirtual 191, 3) := dk_182 0 191 (dk_at dksX1_format_3 21 rfl rfl)
theorem dX1_format_95 : decode cX1_format 95 = .ok (.invokevirtual 380, 3) := dk_182 1 124 (dk_at dksX1_format_4 0 rfl rfl)
theorem dX1_format_98 : decode cX1_format 98 = .ok (.pop, 1) := dk_87 (dk_at dksX1_format_4 3 rfl rfl)
theorem dX1_format_99 : decode cX1_format 99 = .ok (.aload_n 0, 1) := dk_42 (dk_at dksX1_format_4 4 rfl rfl)
theorem dX1_format_100 : decode cX1_format 100 = .ok (.aload_n 3, 1) := dk_45 (dk_at dksX1_format_4 5 rfl rfl)
theorem dX1_format_101 : decode cX1_format 101 = .ok (.invokevirtual 383, 3) := dk_182 1 127 (dk_at dksX1_format_4 6 rfl rfl)
theorem dX1_format_104 : decode cX1_format 104 = .ok (.putfield 67, 3) := dk_181 0 67 (dk_at dksX1_format_4 9 rfl rfl)
theorem dX1_format_107 : decode cX1_format 107 = .ok (.aload_n 0, 1) := dk_42 (dk_at dksX1_format_4 12 rfl rfl)
theorem dX1_format_108 : decode cX1_format 108 = .ok (.getfield 67, 3) := dk_180 0 67 (dk_at dksX1_format_4 13 rfl rfl)
theorem dX1_format_111 : decode cX1_format 111 = .ok (.invokevirtual 387, 3) := dk_182 1 131 (dk_at dksX1_format_4 16 rfl rfl)
theorem dX1_format_114 : decode cX1_format 114 = .ok (.ireturn, 1) := dk_172 (dk_at dksX1_format_4 19 rfl rfl)
/-- PackingDuel.format(I)I -/
def zb78 (G : zPg) (C : zO) (args : List Value) (Q : zQ) (Y : zY) (σ : zS) : Prop := ∃ (a0 : Nat) (x1 : Int32), args = [.ref a0, .int x1] ∧ (zrc σ (some a0) 0 (fun a4 => zcl C 59 [.ref a4, .int x1] Y σ (zqV (fun s2 => zgR s2 (some a0) 0 0 (fun v8 => zrc s2 v8 1 (fun a17 => zcl C 104 [.ref a17, .int x1] Y s2 (zqI (fun v14 s15 => znew s15 8 [va_rf none, .int 0, .int 0, .int 0] 4 (fun s21 => (∃ a27, (some s15.2.1) = some a27 ∧ zcl C 346 [.ref a27] Y s21 (zqV (fun s25 => ∃ n, zIt (fun _ _ => False) (fun rec31 (p29 : Int32) (s30 : zS) => zgR s30 (some a0) 0 0 (fun v32 => zgR s30 v32 1 0 (fun v38 => zrc s30 v38 2 (fun a47 => zcl C 128 [.ref a47] Y s30 (zqI (fun v44 s45 => ((v44 ≤ p29) → zrc s45 (some s15.2.1) 8 (fun a55 => zcl C 352 [.ref a55, .int (32 : Int32)] Y s45 (zqR (fun v52 s53 => zgR s53 (some a0) 0 0 (fun v59 => zrc s53 v59 1 (fun a68 => zcl C 102 [.ref a68, .int x1] Y s53 (zqI (fun v65 s66 => zrc s66 v52 8 (fun a75 => zcl C 349 [.ref a75, .int v65] Y s66 (zqR (fun v72 s73 => zrc s73 (some s15.2.1) 8 (fun a82 => zcl C 350 [.ref a82] Y s73 (zqR (fun v79 s80 => zput s80 G.1 (some a0) 0 6 (va_rf v79) (fun s86 => zgR s86 (some a0) 0 6 (fun v94 => zrc s86 v94 9 (fun a103 => zcl C 355 [.ref a103] Y s86 (zqI (fun v100 s101 => Q (some (.int v100)) s101))))))))))))))))))) ∧ ((¬ v44 ≤ p29) → zcl C 31 [.int x1, .int p29] Y s45 (zqI (fun v107 s108 => zJ (fun (p110 : Int32) (s111 : zS) => zrc s111 (some s15.2.1) 8 (fun a116 => zcl C 352 [.ref a116, .int p110] Y s111 (zqR (fun v113 s114 => (∀ v120 : Int32, v120 = p29 + (1 : Int32) → rec31 v120 s114))))) (fun (j112 : Int32 → zS → Prop) => ((v107 = 0) → zcl C 31 [.int v14, .int p29] Y s108 (zqI (fun v123 s124 => ((v123 = 0) → j112 (46 : Int32) s124) ∧ ((¬ v123 = 0) → j112 (82 : Int32) s124)))) ∧ ((¬ v107 = 0) → j112 (80 : Int32) s108))))))))))) n (0 : Int32) s25))))))))))))
set_option maxHeartbeats 4000000 in
theorem wk78 {l : Launch} {g : zG} {d : Nat} {C : zO} (hG : zGk g) (hC : zSound l g d C) {args : List Value} {Q : zQ} {Y : zY} {σ : zS} (hw : zb78 (zpg g) C args Q Y σ) : zMet l g (d + 1) (⟨"PackingDuel", "format", "(I)I"⟩, Cond.code ⟨"PackingDuel", "format", "(I)I"⟩ prog_1_method_57_code 5 (Option.some FieldType.int)) args σ Q Y := by
  obtain ⟨a0, x1, rfl, hw⟩ := hw
  refine zof hG (by decide +kernel) [false, false] ⟨rfl, rfl, trivial⟩ (Nat.le_of_ble_eq_true rfl) (ls := [some (va_rf (some a0)), some (.int x1), none, none, none]) rfl ?_
  intro X hX hR hTb hd1 hd2 hl hg hnm
  subst hl
  subst hg
  have hd : zDep X d := ⟨hd1, hd2⟩
  refine z_aload_n hX dX1_format_0 rfl (i := 0) rfl ?_
  refine z_iload_n hX dX1_format_1 rfl (i := 1) rfl ?_
  obtain ⟨a4, f5, r6, m7, hw⟩ := hw
  refine z_invV hX hd r6 (ci := 0) rfl rfl m7 dX1_format_2 (hC 59 _ zm59 _ _ _ _ hw) q1677 q1679 qs26 zh1 q1680 q130 zn59 rfl (Nat.le_of_ble_eq_true rfl) (st := []) rfl (zcs8 (Nat.le_of_ble_eq_true rfl)) rfl (zkV (fun s2 hw => ?_)) (zout hX hR hTb)
  refine z_aload_n hX dX1_format_5 rfl (i := 0) rfl ?_
  obtain ⟨a9, f10, v8, r11, m12, e13, hw⟩ := hw
  refine z_get hX zc0 (k := 0) dX1_format_6 (Nat.le_of_ble_eq_true rfl) (zlk hX q307) r11 m12 e13 ?_
  refine z_iload_n hX dX1_format_9 rfl (i := 1) rfl ?_
  obtain ⟨a17, f18, r19, m20, hw⟩ := hw
  refine z_invV hX hd r19 (ci := 1) rfl rfl m20 dX1_format_10 (hC 104 _ zm104 _ _ _ _ hw) q749 q750 q751 zh2 q752 q131 zn104 rfl (Nat.le_of_ble_eq_true rfl) (st := []) rfl (zcs8 (Nat.le_of_ble_eq_true rfl)) rfl (zkI (fun v14 s15 hw => ?_)) (zout hX hR hTb)
  refine z_istore_n hX dX1_format_13 rfl (i := 2) (Nat.le_of_ble_eq_true rfl) rfl (ls2 := [some (va_rf (some a0)), some (.int x1), some (.int v14), none, none]) rfl ?_
  refine z_new hX zc8 dX1_format_14 q2178 q1095 q145 (fs := [va_rf none, .int 0, .int 0, .int 0]) (fun j hj => by have hj : j < 4 := hj; exact zdf8 j hj) hw.1 hw.2.1 (fun z22 => z_nm (fun s21 e23 => ?_))
  have hw := hw.2.2 z22 s21 e23
  refine z_dup hX dX1_format_17 (zc_rf _) ?_
  obtain ⟨a27, r28, hw⟩ := hw
  refine z_invI hX hd r28 dX1_format_18 (hC 346 _ zm346 _ _ _ _ hw) q2179 q1097 rfl zh16 q1098 q145 zn346 rfl (Nat.le_of_ble_eq_true rfl) (st := [va_rf (some s15.2.1)]) rfl (zcs8 (Nat.le_of_ble_eq_true rfl)) rfl (zkV (fun s25 hw => ?_)) (zout hX hR hTb)
  refine z_astore_n hX dX1_format_21 rfl (i := 3) (Nat.le_of_ble_eq_true rfl) rfl (ls2 := [some (va_rf (some a0)), some (.int x1), some (.int v14), some (va_rf (some s15.2.1)), none]) rfl ?_
  refine z_iconst hX (v := (0 : Int32)) dX1_format_22 (by decide) ?_
  refine z_istore hX dX1_format_23 (i := 4) (Nat.le_of_ble_eq_true rfl) (zc_rf _) (ls2 := [some (va_rf (some a0)), some (.int x1), some (.int v14), some (va_rf (some s15.2.1)), some (.int (0 : Int32))]) rfl ?_
  obtain ⟨n127, hw⟩ := hw
  refine zIt_w (P := fun (j : Int32 → zS → Prop) => ∀ (p29 : Int32) (s30 : zS), j p29 s30 → zW X s30 25 [some (va_rf (some a0)), some (.int x1), some (.int v14), some (va_rf (some s15.2.1)), some (.int p29)] []) (fun _ _ h => h.elim) (fun rec31 hrec31 p29 s30 hw => ?_) n127 _ _ hw
  refine z_iload hX dX1_format_25 (i := 4) rfl ?_
  refine z_aload_n hX dX1_format_27 rfl (i := 0) rfl ?_
  obtain ⟨a33, f34, v32, r35, m36, e37, hw⟩ := hw
  refine z_get hX zc0 (k := 0) dX1_format_28 (Nat.le_of_ble_eq_true rfl) (zlk hX q307) r35 m36 e37 ?_
  obtain ⟨a39, f40, v38, r41, m42, e43, hw⟩ := hw
  refine z_get hX zc1 (k := 0) dX1_format_31 (Nat.le_of_ble_eq_true rfl) (zlkN hX "PackingDuel" q228) r41 m42 e43 ?_
  obtain ⟨a47, f48, r49, m50, hw⟩ := hw
  refine z_invV hX hd r49 (ci := 2) rfl rfl m50 dX1_format_34 (hC 128 _ zm128 _ _ _ _ hw) q1630 q362 q363 zh5 q364 q134 zn128 rfl (Nat.le_of_ble_eq_true rfl) (st := [.int p29]) rfl (zcs8 (Nat.le_of_ble_eq_true rfl)) rfl (zkI (fun v44 s45 hw => ?_)) (zout hX hR hTb)
  refine z_icmp_ge hX dX1_format_37 (tgt := 81) rfl (fun c51 => ?_) (fun c51 => ?_)
  · have hw := hw.1 c51
    refine z_aload_n hX dX1_format_81 rfl (i := 3) rfl ?_
    refine z_bipush hX (v := (32 : Int32)) dX1_format_82 (by decide) ?_
    obtain ⟨a55, f56, r57, m58, hw⟩ := hw
    refine z_invV hX hd r57 (ci := 8) rfl rfl m58 dX1_format_84 (hC 352 _ zm352 _ _ _ _ hw) q2181 q1350 q1351 zh16 q1352 q145 zn352 rfl (Nat.le_of_ble_eq_true rfl) (st := []) rfl (zcs8 (Nat.le_of_ble_eq_true rfl)) rfl (zkR (fun v52 s53 hw => ?_)) (zout hX hR hTb)
    refine z_aload_n hX dX1_format_87 rfl (i := 0) rfl ?_
    obtain ⟨a60, f61, v59, r62, m63, e64, hw⟩ := hw
    refine z_get hX zc0 (k := 0) dX1_format_88 (Nat.le_of_ble_eq_true rfl) (zlk hX q307) r62 m63 e64 ?_
    refine z_iload_n hX dX1_format_91 rfl (i := 1) rfl ?_
    obtain ⟨a68, f69, r70, m71, hw⟩ := hw
    refine z_invV hX hd r70 (ci := 1) rfl rfl m71 dX1_format_92 (hC 102 _ zm102 _ _ _ _ hw) q737 q738 q739 zh2 q740 q131 zn102 rfl (Nat.le_of_ble_eq_true rfl) (st := [va_rf v52]) rfl (zcs8 (Nat.le_of_ble_eq_true rfl)) rfl (zkI (fun v65 s66 hw => ?_)) (zout hX hR hTb)
    obtain ⟨a75, f76, r77, m78, hw⟩ := hw
    refine z_invV hX hd r77 (ci := 8) rfl rfl m78 dX1_format_95 (hC 349 _ zm349 _ _ _ _ hw) q2182 q1242 q1243 zh16 q1244 q145 zn349 rfl (Nat.le_of_ble_eq_true rfl) (st := []) rfl (zcs8 (Nat.le_of_ble_eq_true rfl)) rfl (zkR (fun v72 s73 hw => ?_)) (zout hX hR hTb)
    refine z_pop hX dX1_format_98 (zc_rf _) ?_
    refine z_aload_n hX dX1_format_99 rfl (i := 0) rfl ?_
    refine z_aload_n hX dX1_format_100 rfl (i := 3) rfl ?_
    obtain ⟨a82, f83, r84, m85, hw⟩ := hw
    refine z_invV hX hd r84 (ci := 8) rfl rfl m85 dX1_format_101 (hC 350 _ zm350 _ _ _ _ hw) q2183 q1269 q1270 zh16 q1271 q145 zn350 rfl (Nat.le_of_ble_eq_true rfl) (st := [va_rf (some a0)]) rfl (zcs8 (Nat.le_of_ble_eq_true rfl)) rfl (zkR (fun v79 s80 hw => ?_)) (zout hX hR hTb)
    obtain ⟨a88, f89, r90, g91, m92, l93, hw⟩ := hw
    refine z_put hX zc0 (k := 6) dX1_format_104 (Nat.le_of_ble_eq_true rfl) (zlk hX q314) rfl (zn_o _ _) (zf_o _ _) r90 g91 m92 l93 (z_nm (fun s86 e87 => ?_))
    have hw := hw s86 e87
    refine z_aload_n hX dX1_format_107 rfl (i := 0) rfl ?_
    obtain ⟨a95, f96, v94, r97, m98, e99, hw⟩ := hw
    refine z_get hX zc0 (k := 6) dX1_format_108 (Nat.le_of_ble_eq_true rfl) (zlk hX q314) r97 m98 e99 ?_
    obtain ⟨a103, f104, r105, m106, hw⟩ := hw
    refine z_invV hX hd r105 (ci := 9) rfl rfl m106 dX1_format_111 (hC 355 _ zm355 _ _ _ _ hw) q1004 q1005 q1006 zh17 q1007 q146 zn355 rfl (Nat.le_of_ble_eq_true rfl) (st := []) rfl (zcs8 (Nat.le_of_ble_eq_true rfl)) rfl (zkI (fun v100 s101 hw => ?_)) (zout hX hR hTb)
    exact z_ireturn hX hR dX1_format_114 rfl hw
  · have hw := hw.2 c51
    refine z_aload_n hX dX1_format_40 rfl (i := 3) rfl ?_
    refine z_iload_n hX dX1_format_41 rfl (i := 1) rfl ?_
    refine z_iload hX dX1_format_42 (i := 4) rfl ?_
    refine z_invS hX hd dX1_format_44 (hC 31 _ zm31 _ _ _ _ hw) q2180 q523 zh1 q524 q130 zn31 rfl (Nat.le_of_ble_eq_true rfl) (st := [va_rf (some s15.2.1)]) rfl (zcs8 (Nat.le_of_ble_eq_true rfl)) rfl (zkI (fun v107 s108 hw => ?_)) (zout hX hR hTb)
    refine zJ_w (P := fun (j : Int32 → zS → Prop) => ∀ (p110 : Int32) (s111 : zS), j p110 s111 → zW X s111 71 [some (va_rf (some a0)), some (.int x1), some (.int v14), some (va_rf (some s15.2.1)), some (.int p29)] [.int p110, va_rf (some s15.2.1)]) hw (fun p110 s111 hw => ?_) (fun j112 hj112 hw => ?_)
    · obtain ⟨a116, f117, r118, m119, hw⟩ := hw
      refine z_invV hX hd r118 (ci := 8) rfl rfl m119 dX1_format_71 (hC 352 _ zm352 _ _ _ _ hw) q2181 q1350 q1351 zh16 q1352 q145 zn352 rfl (Nat.le_of_ble_eq_true rfl) (st := []) rfl (zcs8 (Nat.le_of_ble_eq_true rfl)) rfl (zkR (fun v113 s114 hw => ?_)) (zout hX hR hTb)
      refine z_pop hX dX1_format_74 (zc_rf _) ?_
      obtain ⟨v120, e121⟩ : ∃ y : Int32, y = p29 + (1 : Int32) := ⟨_, rfl⟩
      refine z_iinc hX dX1_format_75 (i := 4) (v := v120) rfl (by rw [e121]; rfl) (Nat.le_of_ble_eq_true rfl) (zc_rf _) (ls2 := [some (va_rf (some a0)), some (.int x1), some (.int v14), some (va_rf (some s15.2.1)), some (.int v120)]) rfl ?_
      have hw := hw v120 e121
      refine z_goto hX dX1_format_78 (tgt := 25) rfl ?_
      exact hrec31 _ _ hw
    · refine z_if_eq hX dX1_format_47 (tgt := 55) rfl (fun c122 => ?_) (fun c122 => ?_)
      · have hw := hw.1 c122
        refine z_iload_n hX dX1_format_55 rfl (i := 2) rfl ?_
        refine z_iload hX dX1_format_56 (i := 4) rfl ?_
        refine z_invS hX hd dX1_format_58 (hC 31 _ zm31 _ _ _ _ hw) q2180 q523 zh1 q524 q130 zn31 rfl (Nat.le_of_ble_eq_true rfl) (st := [va_rf (some s15.2.1)]) rfl (zcs8 (Nat.le_of_ble_eq_true rfl)) rfl (zkI (fun v123 s124 hw => ?_)) (zout hX hR hTb)
        refine z_if_eq hX dX1_format_61 (tgt := 69) rfl (fun c126 => ?_) (fun c126 => ?_)
        · have hw := hw.1 c126
          refine z_bipush hX (v := (46 : Int32)) dX1_format_69 (by decide) ?_
          exact hj112 _ _ hw
        · have hw := hw.2 c126
          refine z_bipush hX (v := (82 : Int32)) dX1_format_64 (by decide) ?_
          refine z_goto hX dX1_format_66 (tgt := 71) rfl ?_
          exact hj112 _ _ hw
      · have hw := hw.2 c122
        refine z_bipush hX (v := (80 : Int32)) dX1_format_50 (by decide) ?_
        refine z_goto hX dX1_format_52 (tgt := 71) rfl ?_
        exact hj112 _ _ hw
abbrev cX1_propertyCode : ByteArray := prog_1_method_6_code
def yX1_propertyCode : MethodName := ⟨RX1, "propertyCode", "(Ljava/lang/String;)I"⟩
def dkwX1_propertyCode_10 : List UInt8 := [16, 6, 167, 0, 14, 16, 7, 167, 0, 9, 16, 8, 167, 0, 4, 2, 172]
abbrev dktX1_propertyCode_10 : List UInt8 := dkwX1_propertyCode_10 ++ []
def dkwX1_propertyCode_9 : List UInt8 := [3, 167, 0, 39, 4, 167, 0, 35, 5, 167, 0, 31, 6, 167, 0, 27, 7, 167, 0, 23, 8, 167, 0, 19]
abbrev dktX1_propertyCode_9 : List UInt8 := dkwX1_propertyCode_9 ++ dktX1_propertyCode_10
def dkwX1_propertyCode_8 : List UInt8 := [170, 0, 0, 0, 88, 0, 0, 0, 0, 0, 0, 0, 8, 0, 0, 0, 49, 0, 0, 0, 53, 0, 0, 0, 57, 0, 0, 0, 61, 0, 0, 0, 65, 0, 0, 0, 69, 0, 0, 0, 73, 0, 0, 0, 78, 0, 0, 0, 83]
abbrev dktX1_propertyCode_8 : List UInt8 := dkwX1_propertyCode_8 ++ dktX1_propertyCode_9
def dkwX1_propertyCode_7 : List UInt8 := [182, 0, 18, 153, 0, 6, 16, 8, 61, 28]
abbrev dktX1_propertyCode_7 : List UInt8 := dkwX1_propertyCode_7 ++ dktX1_propertyCode_8
def dkwX1_propertyCode_6 : List UInt8 := [61, 167, 0, 30, 43, 18, 34, 182, 0, 18, 153, 0, 21, 16, 7, 61, 167, 0, 15, 43, 18, 36]
abbrev dktX1_propertyCode_6 : List UInt8 := dkwX1_propertyCode_6 ++ dktX1_propertyCode_7
def dkwX1_propertyCode_5 : List UInt8 := [18, 30, 182, 0, 18, 153, 0, 50, 8, 61, 167, 0, 45, 43, 18, 32, 182, 0, 18, 153, 0, 36, 16, 6]
abbrev dktX1_propertyCode_5 : List UInt8 := dkwX1_propertyCode_5 ++ dktX1_propertyCode_6
def dkwX1_propertyCode_4 : List UInt8 := [153, 0, 78, 6, 61, 167, 0, 73, 43, 18, 28, 182, 0, 18, 153, 0, 64, 7, 61, 167, 0, 59, 43]
abbrev dktX1_propertyCode_4 : List UInt8 := dkwX1_propertyCode_4 ++ dktX1_propertyCode_5
def dkwX1_propertyCode_3 : List UInt8 := [61, 167, 0, 101, 43, 18, 24, 182, 0, 18, 153, 0, 92, 5, 61, 167, 0, 87, 43, 18, 26, 182, 0, 18]
abbrev dktX1_propertyCode_3 : List UInt8 := dkwX1_propertyCode_3 ++ dktX1_propertyCode_4
def dkwX1_propertyCode_2 : List UInt8 := [43, 18, 16, 182, 0, 18, 153, 0, 120, 3, 61, 167, 0, 115, 43, 18, 22, 182, 0, 18, 153, 0, 106, 4]
abbrev dktX1_propertyCode_2 : List UInt8 := dkwX1_propertyCode_2 ++ dktX1_propertyCode_3
def dkwX1_propertyCode_1 : List UInt8 := [171, 0, 0, 0, 0, 0, 0, 210, 0, 0, 0, 9, 200, 77, 200, 29, 0, 0, 0, 183, 208, 209, 66, 120, 0, 0, 0, 112, 226, 57, 84, 221, 0, 0, 0, 198, 0, 1, 188, 98, 0, 0, 0, 84, 0, 48, 75, 127, 0, 0, 0, 154, 0, 48, 192, 244, 0, 0, 0, 168, 0, 53, 128, 219, 0, 0, 0, 126, 5, 253, 231, 192, 0, 0, 0, 98, 6, 172, 145, 113, 0, 0, 0, 140]
abbrev dktX1_propertyCode_1 : List UInt8 := dkwX1_propertyCode_1 ++ dktX1_propertyCode_2
def dkwX1_propertyCode_0 : List UInt8 := [42, 76, 2, 61, 43, 182, 0, 10]
abbrev dktX1_propertyCode_0 : List UInt8 := dkwX1_propertyCode_0 ++ dktX1_propertyCode_1
theorem dksX1_propertyCode_0 : cX1_propertyCode.data.toList.drop 0 = dktX1_propertyCode_0 := by decide +kernel
theorem dksX1_propertyCode_1 : cX1_propertyCode.data.toList.drop 8 = dktX1_propertyCode_1 := dk_seg dksX1_propertyCode_0 8 rfl rfl
theorem dksX1_propertyCode_2 : cX1_propertyCode.data.toList.drop 92 = dktX1_propertyCode_2 := dk_seg dksX1_propertyCode_1 84 rfl rfl
theorem dksX1_propertyCode_3 : cX1_propertyCode.data.toList.drop 116 = dktX1_propertyCode_3 := dk_seg dksX1_propertyCode_2 24 rfl rfl
theorem dksX1_propertyCode_4 : cX1_propertyCode.data.toList.drop 140 = dktX1_propertyCode_4 := dk_seg dksX1_propertyCode_3 24 rfl rfl
theorem dksX1_propertyCode_5 : cX1_propertyCode.data.toList.drop 163 = dktX1_propertyCode_5 := dk_seg dksX1_propertyCode_4 23 rfl rfl
theorem dksX1_propertyCode_6 : cX1_propertyCode.data.toList.drop 187 = dktX1_propertyCode_6 := dk_seg dksX1_propertyCode_5 24 rfl rfl
theorem dksX1_propertyCode_7 : cX1_propertyCode.data.toList.drop 209 = dktX1_propertyCode_7 := dk_seg dksX1_propertyCode_6 22 rfl rfl
theorem dksX1_propertyCode_8 : cX1_propertyCode.data.toList.drop 219 = dktX1_propertyCode_8 := dk_seg dksX1_propertyCode_7 10 rfl rfl
theorem dksX1_propertyCode_9 : cX1_propertyCode.data.toList.drop 268 = dktX1_propertyCode_9 := dk_seg dksX1_propertyCode_8 49 rfl rfl
theorem dksX1_propertyCode_10 : cX1_propertyCode.data.toList.drop 292 = dktX1_propertyCode_10 := dk_seg dksX1_propertyCode_9 24 rfl rfl
theorem dX1_propertyCode_0 : decode cX1_propertyCode 0 = .ok (.aload_n 0, 1) := dk_42 (dk_at dksX1_propertyCode_0 0 rfl rfl)
theorem dX1_propertyCode_1 : decode cX1_propertyCode 1 = .ok (.astore_n 1, 1) := dk_76 (dk_at dksX1_propertyCode_0 1 rfl rfl)
theorem dX1_propertyCode_2 : decode cX1_propertyCode 2 = .ok (.iconst (-1), 1) := dk_2 (dk_at dksX1_propertyCode_0 2 rfl rfl)
theorem dX1_propertyCode_3 : decode cX1_propertyCode 3 = .ok (.istore_n 2, 1) := dk_61 (dk_at dksX1_propertyCode_0 3 rfl rfl)
theorem dX1_propertyCode_4 : decode cX1_propertyCode 4 = .ok (.aload_n 1, 1) := dk_43 (dk_at dksX1_propertyCode_0 4 rfl rfl)
theorem dX1_propertyCode_5 : decode cX1_propertyCode 5 = .ok (.invokevirtual 10, 3) := dk_182 0 10 (dk_at dksX1_propertyCode_0 5 rfl rfl)
theorem dX1_propertyCode_8 : decode cX1_propertyCode 8 = .ok (.lookupswitch 210 #[(-934426595, 183), (-791592328, 112), (-499559203, 198), (113762, 84), (3165055, 154), (3195124, 168), (3506395, 126), (100526016, 98), (111972721, 140)], 84) := by decide +kernel
theorem dX1_propertyCode_92 : decode cX1_propertyCode 92 = .ok (.aload_n 1, 1) := dk_43 (dk_at dksX1_propertyCode_2 0 rfl rfl)
theorem dX1_propertyCode_93 : decode cX1_propertyCode 93 = .ok (.ldc 16, 2) := dk_18 16 (dk_at dksX1_propertyCode_2 1 rfl rfl)
theorem dX1_propertyCode_95 : decode cX1_propertyCode 95 = .ok (.invokevirtual 18, 3) := dk_182 0 18 (dk_at dksX1_propertyCode_2 3 rfl rfl)
theorem dX1_propertyCode_98 : decode cX1_propertyCode 98 = .ok (.ifCond .eq 120, 3) := dk_153 0 120 (dk_at dksX1_propertyCode_2 6 rfl rfl)
theorem dX1_propertyCode_101 : decode cX1_propertyCode 101 = .ok (.iconst 0, 1) := dk_3 (dk_at dksX1_propertyCode_2 9 rfl rfl)
theorem dX1_propertyCode_102 : decode cX1_propertyCode 102 = .ok (.istore_n 2, 1) := dk_61 (dk_at dksX1_propertyCode_2 10 rfl rfl)
theorem dX1_propertyCode_103 : decode cX1_propertyCode 103 = .ok (.goto 115, 3) := dk_167 0 115 (dk_at dksX1_propertyCode_2 11 rfl rfl)
theorem dX1_propertyCode_106 : decode cX1_propertyCode 106 = .ok (.aload_n 1, 1) := dk_43 (dk_at dksX1_propertyCode_2 14 rfl rfl)
theorem dX1_propertyCode_107 : decode cX1_propertyCode 107 = .ok (.ldc 22, 2) := dk_18 22 (dk_at dksX1_propertyCode_2 15 rfl rfl)
theorem dX1_propertyCode_109 : decode cX1_propertyCode 109 = .ok (.invokevirtual 18, 3) := dk_182 0 18 (dk_at dksX1_propertyCode_2 17 rfl rfl)
theorem dX1_propertyCode_112 : decode cX1_propertyCode 112 = .ok (.ifCond .eq 106, 3) := dk_153 0 106 (dk_at dksX1_propertyCode_2 20 rfl rfl)
theorem dX1_propertyCode_115 : decode cX1_propertyCode 115 = .ok (.iconst 1, 1) := dk_4 (dk_at dksX1_propertyCode_2 23 rfl rfl)
theorem dX1_propertyCode_116 : decode cX1_propertyCode 116 = .ok (.istore_n 2, 1) := dk_61 (dk_at dksX1_propertyCode_3 0 rfl rfl)
theorem dX1_propertyCode_117 : decode cX1_propertyCode 117 = .ok (.goto 101, 3) := dk_167 0 101 (dk_at dksX1_propertyCode_3 1 rfl rfl)
theorem dX1_propertyCode_120 : decode cX1_propertyCode 120 = .ok (.aload_n 1, 1) := dk_43 (dk_at dksX1_propertyCode_3 4 rfl rfl)
theorem dX1_propertyCode_121 : decode cX1_propertyCode 121 = .ok (.ldc 24, 2) := dk_18 24 (dk_at dksX1_propertyCode_3 5 rfl rfl)
theorem dX1_propertyCode_123 : decode cX1_propertyCode 123 = .ok (.invokevirtual 18, 3) := dk_182 0 18 (dk_at dksX1_propertyCode_3 7 rfl rfl)
theorem dX1_propertyCode_126 : decode cX1_propertyCode 126 = .ok (.ifCond .eq 92, 3) := dk_153 0 92 (dk_at dksX1_propertyCode_3 10 rfl rfl)
theorem dX1_propertyCode_129 : decode cX1_propertyCode 129 = .ok (.iconst 2, 1) := dk_5 (dk_at dksX1_propertyCode_3 13 rfl rfl)
theorem dX1_propertyCode_130 : decode cX1_propertyCode 130 = .ok (.istore_n 2, 1) := dk_61 (dk_at dksX1_propertyCode_3 14 rfl rfl)
theorem dX1_propertyCode_131 : decode cX1_propertyCode 131 = .ok (.goto 87, 3) := dk_167 0 87 (dk_at dksX1_propertyCode_3 15 rfl rfl)
theorem dX1_propertyCode_134 : decode cX1_propertyCode 134 = .ok (.aload_n 1, 1) := dk_43 (dk_at dksX1_propertyCode_3 18 rfl rfl)
theorem dX1_propertyCode_135 : decode cX1_propertyCode 135 = .ok (.ldc 26, 2) := dk_18 26 (dk_at dksX1_propertyCode_3 19 rfl rfl)
theorem dX1_propertyCode_137 : decode cX1_propertyCode 137 = .ok (.invokevirtual 18, 3) := dk_182 0 18 (dk_at dksX1_propertyCode_3 21 rfl rfl)
theorem dX1_propertyCode_140 : decode cX1_propertyCode 140 = .ok (.ifCond .eq 78, 3) := dk_153 0 78 (dk_at dksX1_propertyCode_4 0 rfl rfl)
theorem dX1_propertyCode_143 : decode cX1_propertyCode 143 = .ok (.iconst 3, 1) := dk_6 (dk_at dksX1_propertyCode_4 3 rfl rfl)
theorem dX1_propertyCode_144 : decode cX1_propertyCode 144 = .ok (.istore_n 2, 1) := dk_61 (dk_at dksX1_propertyCode_4 4 rfl rfl)
theorem dX1_propertyCode_145 : decode cX1_propertyCode 145 = .ok (.goto 73, 3) := dk_167 0 73 (dk_at dksX1_propertyCode_4 5 rfl rfl)
theorem dX1_propertyCode_148 : decode cX1_propertyCode 148 = .ok (.aload_n 1, 1) := dk_43 (dk_at dksX1_propertyCode_4 8 rfl rfl)
theorem dX1_propertyCode_149 : decode cX1_propertyCode 149 = .ok (.ldc 28, 2) := dk_18 28 (dk_at dksX1_propertyCode_4 9 rfl rfl)
theorem dX1_propertyCode_151 : decode cX1_propertyCode 151 = .ok (.invokevirtual 18, 3) := dk_182 0 18 (dk_at dksX1_propertyCode_4 11 rfl rfl)
theorem dX1_propertyCode_154 : decode cX1_propertyCode 154 = .ok (.ifCond .eq 64, 3) := dk_153 0 64 (dk_at dksX1_propertyCode_4 14 rfl rfl)
theorem dX1_propertyCode_157 : decode cX1_propertyCode 157 = .ok (.iconst 4, 1) := dk_7 (dk_at dksX1_propertyCode_4 17 rfl rfl)
theorem dX1_propertyCode_158 : decode cX1_propertyCode 158 = .ok (.istore_n 2, 1) := dk_61 (dk_at dksX1_propertyCode_4 18 rfl rfl)
theorem dX1_propertyCode_159 : decode cX1_propertyCode 159 = .ok (.goto 59, 3) := dk_167 0 59 (dk_at dksX1_propertyCode_4 19 rfl rfl)
theorem dX1_propertyCode_162 : decode cX1_propertyCode 162 = .ok (.aload_n 1, 1) := dk_43 (dk_at dksX1_propertyCode_4 22 rfl rfl)
theorem dX1_propertyCode_163 : decode cX1_propertyCode 163 = .ok (.ldc 30, 2) := dk_18 30 (dk_at dksX1_propertyCode_5 0 rfl rfl)
theorem dX1_propertyCode_165 : decode cX1_propertyCode 165 = .ok (.invokevirtual 18, 3) := dk_182 0 18 (dk_at dksX1_propertyCode_5 2 rfl rfl)
theorem dX1_propertyCode_168 : decode cX1_propertyCode 168 = .ok (.ifCond .eq 50, 3) := dk_153 0 50 (dk_at dksX1_propertyCode_5 5 rfl rfl)
theorem dX1_propertyCode_171 : decode cX1_propertyCode 171 = .ok (.iconst 5, 1) := dk_8 (dk_at dksX1_propertyCode_5 8 rfl rfl)
theorem dX1_propertyCode_172 : decode cX1_propertyCode 172 = .ok (.istore_n 2, 1) := dk_61 (dk_at dksX1_propertyCode_5 9 rfl rfl)
theorem dX1_propertyCode_173 : decode cX1_propertyCode 173 = .ok (.goto 45, 3) := dk_167 0 45 (dk_at dksX1_propertyCode_5 10 rfl rfl)
theorem dX1_propertyCode_176 : decode cX1_propertyCode 176 = .ok (.aload_n 1, 1) := dk_43 (dk_at dksX1_propertyCode_5 13 rfl rfl)
theorem dX1_propertyCode_177 : decode cX1_propertyCode 177 = .ok (.ldc 32, 2) := dk_18 32 (dk_at dksX1_propertyCode_5 14 rfl rfl)
theorem dX1_propertyCode_179 : decode cX1_propertyCode 179 = .ok (.invokevirtual 18, 3) := dk_182 0 18 (dk_at dksX1_propertyCode_5 16 rfl rfl)
theorem dX1_propertyCode_182 : decode cX1_propertyCode 182 = .ok (.ifCond .eq 36, 3) := dk_153 0 36 (dk_at dksX1_propertyCode_5 19 rfl rfl)
theorem dX1_propertyCode_185 : decode cX1_propertyCode 185 = .ok (.bipush 6, 2) := dk_16 6 (dk_at dksX1_propertyCode_5 22 rfl rfl)
theorem dX1_propertyCode_187 : decode cX1_propertyCode 187 = .ok (.istore_n 2, 1) := dk_61 (dk_at dksX1_propertyCode_6 0 rfl rfl)
theorem dX1_propertyCode_188 : decode cX1_propertyCode 188 = .ok (.goto 30, 3) := dk_167 0 30 (dk_at dksX1_propertyCode_6 1 rfl rfl)
theorem dX1_propertyCode_191 : decode cX1_propertyCode 191 = .ok (.aload_n 1, 1) := dk_43 (dk_at dksX1_propertyCode_6 4 rfl rfl)
theorem dX1_propertyCode_192 : decode cX1_propertyCode 192 = .ok (.ldc 34, 2) := dk_18 34 (dk_at dksX1_propertyCode_6 5 rfl rfl)
theorem dX1_propertyCode_194 : decode cX1_propertyCode 194 = .ok (.invokevirtual 18, 3) := dk_182 0 18 (dk_at dksX1_propertyCode_6 7 rfl rfl)
theorem dX1_propertyCode_197 : decode cX1_propertyCode 197 = .ok (.ifCond .eq 21, 3) := dk_153 0 21 (dk_at dksX1_propertyCode_6 10 rfl rfl)
theorem dX1_propertyCode_200 : decode cX1_propertyCode 200 = .ok (.bipush 7, 2) := dk_16 7 (dk_at dksX1_propertyCode_6 13 rfl rfl)
theorem dX1_propertyCode_202 : decode cX1_propertyCode 202 = .ok (.istore_n 2, 1) := dk_61 (dk_at dksX1_propertyCode_6 15 rfl rfl)
theorem dX1_propertyCode_203 : decode cX1_propertyCode 203 = .ok (.goto 15, 3) := dk_167 0 15 (dk_at dksX1_propertyCode_6 16 rfl rfl)
theorem dX1_propertyCode_206 : decode cX1_propertyCode 206 = .ok (.aload_n 1, 1) := dk_43 (dk_at dksX1_propertyCode_6 19 rfl rfl)
theorem dX1_propertyCode_207 : decode cX1_propertyCode 207 = .ok (.ldc 36, 2) := dk_18 36 (dk_at dksX1_propertyCode_6 20 rfl rfl)
theorem dX1_propertyCode_209 : decode cX1_propertyCode 209 = .ok (.invokevirtual 18, 3) := dk_182 0 18 (dk_at dksX1_propertyCode_7 0 rfl rfl)
theorem dX1_propertyCode_212 : decode cX1_propertyCode 212 = .ok (.ifCond .eq 6, 3) := dk_153 0 6 (dk_at dksX1_propertyCode_7 3 rfl rfl)
theorem dX1_propertyCode_215 : decode cX1_propertyCode 215 = .ok (.bipush 8, 2) := dk_16 8 (dk_at dksX1_propertyCode_7 6 rfl rfl)
theorem dX1_propertyCode_217 : decode cX1_propertyCode 217 = .ok (.istore_n 2, 1) := dk_61 (dk_at dksX1_propertyCode_7 8 rfl rfl)
theorem dX1_propertyCode_218 : decode cX1_propertyCode 218 = .ok (.iload_n 2, 1) := dk_28 (dk_at dksX1_propertyCode_7 9 rfl rfl)
theorem dX1_propertyCode_219 : decode cX1_propertyCode 219 = .ok (.tableswitch 88 0 8 #[49, 53, 57, 61, 65, 69, 73, 78, 83], 49) := by decide +kernel
theorem dX1_propertyCode_268 : decode cX1_propertyCode 268 = .ok (.iconst 0, 1) := dk_3 (dk_at dksX1_propertyCode_9 0 rfl rfl)
theorem dX1_propertyCode_269 : decode cX1_propertyCode 269 = .ok (.goto 39, 3) := dk_167 0 39 (dk_at dksX1_propertyCode_9 1 rfl rfl)
theorem dX1_propertyCode_272 : decode cX1_propertyCode 272 = .ok (.iconst 1, 1) := dk_4 (dk_at dksX1_propertyCode_9 4 rfl rfl)
theorem dX1_propertyCode_273 : decode cX1_propertyCode 273 = .ok (.goto 35, 3) := dk_167 0 35 (dk_at dksX1_propertyCode_9 5 rfl rfl)
theorem dX1_propertyCode_276 : decode cX1_propertyCode 276 = .ok (.iconst 2, 1) := dk_5 (dk_at dksX1_propertyCode_9 8 rfl rfl)
theorem dX1_propertyCode_277 : decode cX1_propertyCode 277 = .ok (.goto 31, 3) := dk_167 0 31 (dk_at dksX1_propertyCode_9 9 rfl rfl)
theorem dX1_propertyCode_280 : decode cX1_propertyCode 280 = .ok (.iconst 3, 1) := dk_6 (dk_at dksX1_propertyCode_9 12 rfl rfl)
theorem dX1_propertyCode_281 : decode cX1_propertyCode 281 = .ok (.goto 27, 3) := dk_167 0 27 (dk_at dksX1_propertyCode_9 13 rfl rfl)
theorem dX1_propertyCode_284 : decode cX1_propertyCode 284 = .ok (.iconst 4, 1) := dk_7 (dk_at dksX1_propertyCode_9 16 rfl rfl)
theorem dX1_propertyCode_285 : decode cX1_propertyCode 285 = .ok (.goto 23, 3) := dk_167 0 23 (dk_at dksX1_propertyCode_9 17 rfl rfl)
theorem dX1_propertyCode_288 : decode cX1_propertyCode 288 = .ok (.iconst 5, 1) := dk_8 (dk_at dksX1_propertyCode_9 20 rfl rfl)
theorem dX1_propertyCode_289 : decode cX1_propertyCode 289 = .ok (.goto 19, 3) := dk_167 0 19 (dk_at dksX1_propertyCode_9 21 rfl rfl)
theorem dX1_propertyCode_292 : decode cX1_propertyCode 292 = .ok (.bipush 6, 2) := dk_16 6 (dk_at dksX1_propertyCode_10 0 rfl rfl)
theorem dX1_propertyCode_294 : decode cX1_propertyCode 294 = .ok (.goto 14, 3) := dk_167 0 14 (dk_at dksX1_propertyCode_10 2 rfl rfl)
theorem dX1_propertyCode_297 : decode cX1_propertyCode 297 = .ok (.bipush 7, 2) := dk_16 7 (dk_at dksX1_propertyCode_10 5 rfl rfl)
theorem dX1_propertyCode_299 : decode cX1_propertyCode 299 = .ok (.goto 9, 3) := dk_167 0 9 (dk_at dksX1_propertyCode_10 7 rfl rfl)
theorem dX1_propertyCode_302 : decode cX1_propertyCode 302 = .ok (.bipush 8, 2) := dk_16 8 (dk_at dksX1_propertyCode_10 10 rfl rfl)
theorem dX1_propertyCode_304 : decode cX1_propertyCode 304 = .ok (.goto 4, 3) := dk_167 0 4 (dk_at dksX1_propertyCode_10 12 rfl rfl)
theorem dX1_propertyCode_307 : decode cX1_propertyCode 307 = .ok (.iconst (-1), 1) := dk_2 (dk_at dksX1_propertyCode_10 15 rfl rfl)
theorem dX1_propertyCode_308 : decode cX1_propertyCode 308 = .ok (.ireturn, 1) := dk_172 (dk_at dksX1_propertyCode_10 16 rfl rfl)
/-- PackingDuel.propertyCode(Ljava/lang/String;)I -/
def zb80 (G : zPg) (C : zO) (args : List Value) (Q : zQ) (Y : zY) (σ : zS) : Prop := ∃ (x1 : Option Nat), args = [va_rf x1] ∧ (zrc σ x1 9 (fun a4 => zcl C 369 [.ref a4] Y σ (zqI (fun v1 s2 => zJ (fun (p8 : Int32) (s9 : zS) => zJ (fun (p11 : Int32) (s12 : zS) => Q (some (.int p11)) s12) (fun (j13 : Int32 → zS → Prop) => (p8.toInt < (0) ∨ (8) < p8.toInt → j13 (-1 : Int32) s9) ∧ (p8 = (0) → j13 (0 : Int32) s9) ∧ (p8 = (1) → j13 (1 : Int32) s9) ∧ (p8 = (2) → j13 (2 : Int32) s9) ∧ (p8 = (3) → j13 (3 : Int32) s9) ∧ (p8 = (4) → j13 (4 : Int32) s9) ∧ (p8 = (5) → j13 (5 : Int32) s9) ∧ (p8 = (6) → j13 (6 : Int32) s9) ∧ (p8 = (7) → j13 (7 : Int32) s9) ∧ (p8 = (8) → j13 (8 : Int32) s9))) (fun (j10 : Int32 → zS → Prop) => (v1 = (-934426595) → zrc s2 x1 9 (fun a19 => zcl C 365 [.ref a19, va_rf (some (G.2 8))] Y s2 (zqI (fun v16 s17 => ((v16 = 0) → j10 (-1 : Int32) s17) ∧ ((¬ v16 = 0) → j10 (7 : Int32) s17))))) ∧ (v1 = (-791592328) → zrc s2 x1 9 (fun a28 => zcl C 365 [.ref a28, va_rf (some (G.2 3))] Y s2 (zqI (fun v25 s26 => ((v25 = 0) → j10 (-1 : Int32) s26) ∧ ((¬ v25 = 0) → j10 (2 : Int32) s26))))) ∧ (v1 = (-499559203) → zrc s2 x1 9 (fun a37 => zcl C 365 [.ref a37, va_rf (some (G.2 9))] Y s2 (zqI (fun v34 s35 => ((v34 = 0) → j10 (-1 : Int32) s35) ∧ ((¬ v34 = 0) → j10 (8 : Int32) s35))))) ∧ (v1 = 113762 → zrc s2 x1 9 (fun a46 => zcl C 365 [.ref a46, va_rf (some (G.2 1))] Y s2 (zqI (fun v43 s44 => ((v43 = 0) → j10 (-1 : Int32) s44) ∧ ((¬ v43 = 0) → j10 (0 : Int32) s44))))) ∧ (v1 = 3165055 → zrc s2 x1 9 (fun a55 => zcl C 365 [.ref a55, va_rf (some (G.2 6))] Y s2 (zqI (fun v52 s53 => ((v52 = 0) → j10 (-1 : Int32) s53) ∧ ((¬ v52 = 0) → j10 (5 : Int32) s53))))) ∧ (v1 = 3195124 → zrc s2 x1 9 (fun a64 => zcl C 365 [.ref a64, va_rf (some (G.2 7))] Y s2 (zqI (fun v61 s62 => ((v61 = 0) → j10 (-1 : Int32) s62) ∧ ((¬ v61 = 0) → j10 (6 : Int32) s62))))) ∧ (v1 = 3506395 → zrc s2 x1 9 (fun a73 => zcl C 365 [.ref a73, va_rf (some (G.2 4))] Y s2 (zqI (fun v70 s71 => ((v70 = 0) → j10 (-1 : Int32) s71) ∧ ((¬ v70 = 0) → j10 (3 : Int32) s71))))) ∧ (v1 = 100526016 → zrc s2 x1 9 (fun a82 => zcl C 365 [.ref a82, va_rf (some (G.2 2))] Y s2 (zqI (fun v79 s80 => ((v79 = 0) → j10 (-1 : Int32) s80) ∧ ((¬ v79 = 0) → j10 (1 : Int32) s80))))) ∧ (v1 = 111972721 → zrc s2 x1 9 (fun a91 => zcl C 365 [.ref a91, va_rf (some (G.2 5))] Y s2 (zqI (fun v88 s89 => ((v88 = 0) → j10 (-1 : Int32) s89) ∧ ((¬ v88 = 0) → j10 (4 : Int32) s89))))) ∧ (¬ v1 = (-934426595) → ¬ v1 = (-791592328) → ¬ v1 = (-499559203) → ¬ v1 = 113762 → ¬ v1 = 3165055 → ¬ v1 = 3195124 → ¬ v1 = 3506395 → ¬ v1 = 100526016 → ¬ v1 = 111972721 → j10 (-1 : Int32) s2))))))
set_option maxHeartbeats 4000000 in
theorem wk80 {l : Launch} {g : zG} {d : Nat} {C : zO} (hG : zGk g) (hC : zSound l g d C) {args : List Value} {Q : zQ} {Y : zY} {σ : zS} (hw : zb80 (zpg g) C args Q Y σ) : zMet l g (d + 1) (⟨"PackingDuel", "propertyCode", "(Ljava/lang/String;)I"⟩, Cond.code ⟨"PackingDuel", "propertyCode", "(Ljava/lang/String;)I"⟩ prog_1_method_6_code 3 (Option.some FieldType.int)) args σ Q Y := by
  obtain ⟨x1, rfl, hw⟩ := hw
  refine zof hG (by decide +kernel) [false] ⟨(zc_rf _), trivial⟩ (Nat.le_of_ble_eq_true rfl) (ls := [some (va_rf x1), none, none]) rfl ?_
  intro X hX hR hTb hd1 hd2 hl hg hnm
  subst hl
  subst hg
  have hd : zDep X d := ⟨hd1, hd2⟩
  refine z_aload_n hX dX1_propertyCode_0 rfl (i := 0) rfl ?_
  refine z_astore_n hX dX1_propertyCode_1 rfl (i := 1) (Nat.le_of_ble_eq_true rfl) (zc_rf _) (ls2 := [some (va_rf x1), some (va_rf x1), none]) rfl ?_
  refine z_iconst hX (v := (-1 : Int32)) dX1_propertyCode_2 (by decide) ?_
  refine z_istore_n hX dX1_propertyCode_3 rfl (i := 2) (Nat.le_of_ble_eq_true rfl) (zc_rf _) (ls2 := [some (va_rf x1), some (va_rf x1), some (.int (-1 : Int32))]) rfl ?_
  refine z_aload_n hX dX1_propertyCode_4 rfl (i := 1) rfl ?_
  obtain ⟨a4, f5, r6, m7, hw⟩ := hw
  refine z_invV hX hd r6 (ci := 9) rfl rfl m7 dX1_propertyCode_5 (hC 369 _ zm369 _ _ _ _ hw) q2285 q2286 q2287 zh17 q2288 q146 zn369 rfl (Nat.le_of_ble_eq_true rfl) (st := []) rfl (zcs8 (Nat.le_of_ble_eq_true rfl)) rfl (zkI (fun v1 s2 hw => ?_)) (zout hX hR hTb)
  refine zJ_w (P := fun (j : Int32 → zS → Prop) => ∀ (p8 : Int32) (s9 : zS), j p8 s9 → zW X s9 218 [none, none, some (.int p8)] []) hw (fun p8 s9 hw => ?_) (fun j10 hj10 hw => ?_)
  · refine z_iload_n hX dX1_propertyCode_218 rfl (i := 2) rfl ?_
    refine zJ_w (P := fun (j : Int32 → zS → Prop) => ∀ (p11 : Int32) (s12 : zS), j p11 s12 → zW X s12 308 [none, none, none] [.int p11]) hw (fun p11 s12 hw => ?_) (fun j13 hj13 hw => ?_)
    · exact z_ireturn hX hR dX1_propertyCode_308 rfl hw
    · rcases zsw p8 0 9 (by decide) (by decide) with c14 | ⟨j15, hj15, c14⟩
      · have c14 : p8.toInt < (0) ∨ (8) < p8.toInt := by omega
        refine z_tableOut hX dX1_propertyCode_219 c14 (tgt := 307) rfl ?_
        have hw := hw.1 c14
        refine z_iconst hX (v := (-1 : Int32)) dX1_propertyCode_307 (by decide) ?_
        refine z_sub (ls' := [none, none, none]) (zsN (zsN (zsN (zs0)))) ?_
        exact hj13 _ _ hw
      · match j15, hj15, c14 with
        | 0, _, c14 =>
          have c14 : p8 = (0) := c14
          refine z_tableIn hX dX1_propertyCode_219 (by rw [c14]; decide) (by rw [c14]; decide) (off := 49) (by rw [c14]; rfl) (tgt := 268) rfl ?_
          have hw := hw.2.1 c14
          refine z_iconst hX (v := (0 : Int32)) dX1_propertyCode_268 (by decide) ?_
          refine z_goto hX dX1_propertyCode_269 (tgt := 308) rfl ?_
          refine z_sub (ls' := [none, none, none]) (zsN (zsN (zsN (zs0)))) ?_
          exact hj13 _ _ hw
        | 1, _, c14 =>
          have c14 : p8 = (1) := c14
          refine z_tableIn hX dX1_propertyCode_219 (by rw [c14]; decide) (by rw [c14]; decide) (off := 53) (by rw [c14]; rfl) (tgt := 272) rfl ?_
          have hw := hw.2.2.1 c14
          refine z_iconst hX (v := (1 : Int32)) dX1_propertyCode_272 (by decide) ?_
          refine z_goto hX dX1_propertyCode_273 (tgt := 308) rfl ?_
          refine z_sub (ls' := [none, none, none]) (zsN (zsN (zsN (zs0)))) ?_
          exact hj13 _ _ hw
        | 2, _, c14 =>
          have c14 : p8 = (2) := c14
          refine z_tableIn hX dX1_propertyCode_219 (by rw [c14]; decide) (by rw [c14]; decide) (off := 57) (by rw [c14]; rfl) (tgt := 276) rfl ?_
          have hw := hw.2.2.2.1 c14
          refine z_iconst hX (v := (2 : Int32)) dX1_propertyCode_276 (by decide) ?_
          refine z_goto hX dX1_propertyCode_277 (tgt := 308) rfl ?_
          refine z_sub (ls' := [none, none, none]) (zsN (zsN (zsN (zs0)))) ?_
          exact hj13 _ _ hw
        | 3, _, c14 =>
          have c14 : p8 = (3) := c14
          refine z_tableIn hX dX1_propertyCode_219 (by rw [c14]; decide) (by rw [c14]; decide) (off := 61) (by rw [c14]; rfl) (tgt := 280) rfl ?_
          have hw := hw.2.2.2.2.1 c14
          refine z_iconst hX (v := (3 : Int32)) dX1_propertyCode_280 (by decide) ?_
          refine z_goto hX dX1_propertyCode_281 (tgt := 308) rfl ?_
          refine z_sub (ls' := [none, none, none]) (zsN (zsN (zsN (zs0)))) ?_
          exact hj13 _ _ hw
        | 4, _, c14 =>
          have c14 : p8 = (4) := c14
          refine z_tableIn hX dX1_propertyCode_219 (by rw [c14]; decide) (by rw [c14]; decide) (off := 65) (by rw [c14]; rfl) (tgt := 284) rfl ?_
          have hw := hw.2.2.2.2.2.1 c14
          refine z_iconst hX (v := (4 : Int32)) dX1_propertyCode_284 (by decide) ?_
          refine z_goto hX dX1_propertyCode_285 (tgt := 308) rfl ?_
          refine z_sub (ls' := [none, none, none]) (zsN (zsN (zsN (zs0)))) ?_
          exact hj13 _ _ hw
        | 5, _, c14 =>
          have c14 : p8 = (5) := c14
          refine z_tableIn hX dX1_propertyCode_219 (by rw [c14]; decide) (by rw [c14]; decide) (off := 69) (by rw [c14]; rfl) (tgt := 288) rfl ?_
          have hw := hw.2.2.2.2.2.2.1 c14
          refine z_iconst hX (v := (5 : Int32)) dX1_propertyCode_288 (by decide) ?_
          refine z_goto hX dX1_propertyCode_289 (tgt := 308) rfl ?_
          refine z_sub (ls' := [none, none, none]) (zsN (zsN (zsN (zs0)))) ?_
          exact hj13 _ _ hw
        | 6, _, c14 =>
          have c14 : p8 = (6) := c14
          refine z_tableIn hX dX1_propertyCode_219 (by rw [c14]; decide) (by rw [c14]; decide) (off := 73) (by rw [c14]; rfl) (tgt := 292) rfl ?_
          have hw := hw.2.2.2.2.2.2.2.1 c14
          refine z_bipush hX (v := (6 : Int32)) dX1_propertyCode_292 (by decide) ?_
          refine z_goto hX dX1_propertyCode_294 (tgt := 308) rfl ?_
          refine z_sub (ls' := [none, none, none]) (zsN (zsN (zsN (zs0)))) ?_
          exact hj13 _ _ hw
        | 7, _, c14 =>
          have c14 : p8 = (7) := c14
          refine z_tableIn hX dX1_propertyCode_219 (by rw [c14]; decide) (by rw [c14]; decide) (off := 78) (by rw [c14]; rfl) (tgt := 297) rfl ?_
          have hw := hw.2.2.2.2.2.2.2.2.1 c14
          refine z_bipush hX (v := (7 : Int32)) dX1_propertyCode_297 (by decide) ?_
          refine z_goto hX dX1_propertyCode_299 (tgt := 308) rfl ?_
          refine z_sub (ls' := [none, none, none]) (zsN (zsN (zsN (zs0)))) ?_
          exact hj13 _ _ hw
        | 8, _, c14 =>
          have c14 : p8 = (8) := c14
          refine z_tableIn hX dX1_propertyCode_219 (by rw [c14]; decide) (by rw [c14]; decide) (off := 83) (by rw [c14]; rfl) (tgt := 302) rfl ?_
          have hw := hw.2.2.2.2.2.2.2.2.2 c14
          refine z_bipush hX (v := (8 : Int32)) dX1_propertyCode_302 (by decide) ?_
          refine z_goto hX dX1_propertyCode_304 (tgt := 308) rfl ?_
          refine z_sub (ls' := [none, none, none]) (zsN (zsN (zsN (zs0)))) ?_
          exact hj13 _ _ hw
        | j15 + 9, h, _ => exact absurd h (by omega)
  · by_cases c24 : v1 = (-934426595)
    · refine z_lookup hX dX1_propertyCode_8 (by decide) (off := 183) (by rw [c24]; decide) (tgt := 191) rfl ?_
      have hw := hw.1 c24
      refine z_aload_n hX dX1_propertyCode_191 rfl (i := 1) rfl ?_
      refine z_ldcS hX (tx := "result") (j := 8) dX1_propertyCode_192 (List.mem_of_getElem? (i := 8) rfl) ?_
      obtain ⟨a19, f20, r21, m22, hw⟩ := hw
      refine z_invV hX hd r21 (ci := 9) rfl rfl m22 dX1_propertyCode_194 (hC 365 _ zm365 _ _ _ _ hw) q2343 q1430 q1431 zh17 q1432 q146 zn365 rfl (Nat.le_of_ble_eq_true rfl) (st := []) rfl (zcs8 (Nat.le_of_ble_eq_true rfl)) rfl (zkI (fun v16 s17 hw => ?_)) (zout hX hR hTb)
      refine z_if_eq hX dX1_propertyCode_197 (tgt := 218) rfl (fun c23 => ?_) (fun c23 => ?_)
      · have hw := hw.1 c23
        refine z_sub (ls' := [none, none, some (.int (-1 : Int32))]) (zsN (zsN (zsS (zs0)))) ?_
        exact hj10 _ _ hw
      · have hw := hw.2 c23
        refine z_bipush hX (v := (7 : Int32)) dX1_propertyCode_200 (by decide) ?_
        refine z_istore_n hX dX1_propertyCode_202 rfl (i := 2) (Nat.le_of_ble_eq_true rfl) (zc_rf _) (ls2 := [some (va_rf x1), some (va_rf x1), some (.int (7 : Int32))]) rfl ?_
        refine z_goto hX dX1_propertyCode_203 (tgt := 218) rfl ?_
        refine z_sub (ls' := [none, none, some (.int (7 : Int32))]) (zsN (zsN (zsS (zs0)))) ?_
        exact hj10 _ _ hw
    by_cases c33 : v1 = (-791592328)
    · refine z_lookup hX dX1_propertyCode_8 (by decide) (off := 112) (by rw [c33]; decide) (tgt := 120) rfl ?_
      have hw := hw.2.1 c33
      refine z_aload_n hX dX1_propertyCode_120 rfl (i := 1) rfl ?_
      refine z_ldcS hX (tx := "weight") (j := 3) dX1_propertyCode_121 (List.mem_of_getElem? (i := 3) rfl) ?_
      obtain ⟨a28, f29, r30, m31, hw⟩ := hw
      refine z_invV hX hd r30 (ci := 9) rfl rfl m31 dX1_propertyCode_123 (hC 365 _ zm365 _ _ _ _ hw) q2343 q1430 q1431 zh17 q1432 q146 zn365 rfl (Nat.le_of_ble_eq_true rfl) (st := []) rfl (zcs8 (Nat.le_of_ble_eq_true rfl)) rfl (zkI (fun v25 s26 hw => ?_)) (zout hX hR hTb)
      refine z_if_eq hX dX1_propertyCode_126 (tgt := 218) rfl (fun c32 => ?_) (fun c32 => ?_)
      · have hw := hw.1 c32
        refine z_sub (ls' := [none, none, some (.int (-1 : Int32))]) (zsN (zsN (zsS (zs0)))) ?_
        exact hj10 _ _ hw
      · have hw := hw.2 c32
        refine z_iconst hX (v := (2 : Int32)) dX1_propertyCode_129 (by decide) ?_
        refine z_istore_n hX dX1_propertyCode_130 rfl (i := 2) (Nat.le_of_ble_eq_true rfl) (zc_rf _) (ls2 := [some (va_rf x1), some (va_rf x1), some (.int (2 : Int32))]) rfl ?_
        refine z_goto hX dX1_propertyCode_131 (tgt := 218) rfl ?_
        refine z_sub (ls' := [none, none, some (.int (2 : Int32))]) (zsN (zsN (zsS (zs0)))) ?_
        exact hj10 _ _ hw
    by_cases c42 : v1 = (-499559203)
    · refine z_lookup hX dX1_propertyCode_8 (by decide) (off := 198) (by rw [c42]; decide) (tgt := 206) rfl ?_
      have hw := hw.2.2.1 c42
      refine z_aload_n hX dX1_propertyCode_206 rfl (i := 1) rfl ?_
      refine z_ldcS hX (tx := "answered") (j := 9) dX1_propertyCode_207 (List.mem_of_getElem? (i := 9) rfl) ?_
      obtain ⟨a37, f38, r39, m40, hw⟩ := hw
      refine z_invV hX hd r39 (ci := 9) rfl rfl m40 dX1_propertyCode_209 (hC 365 _ zm365 _ _ _ _ hw) q2343 q1430 q1431 zh17 q1432 q146 zn365 rfl (Nat.le_of_ble_eq_true rfl) (st := []) rfl (zcs8 (Nat.le_of_ble_eq_true rfl)) rfl (zkI (fun v34 s35 hw => ?_)) (zout hX hR hTb)
      refine z_if_eq hX dX1_propertyCode_212 (tgt := 218) rfl (fun c41 => ?_) (fun c41 => ?_)
      · have hw := hw.1 c41
        refine z_sub (ls' := [none, none, some (.int (-1 : Int32))]) (zsN (zsN (zsS (zs0)))) ?_
        exact hj10 _ _ hw
      · have hw := hw.2 c41
        refine z_bipush hX (v := (8 : Int32)) dX1_propertyCode_215 (by decide) ?_
        refine z_istore_n hX dX1_propertyCode_217 rfl (i := 2) (Nat.le_of_ble_eq_true rfl) (zc_rf _) (ls2 := [some (va_rf x1), some (va_rf x1), some (.int (8 : Int32))]) rfl ?_
        refine z_sub (ls' := [none, none, some (.int (8 : Int32))]) (zsN (zsN (zsS (zs0)))) ?_
        exact hj10 _ _ hw
    by_cases c51 : v1 = 113762
    · refine z_lookup hX dX1_propertyCode_8 (by decide) (off := 84) (by rw [c51]; decide) (tgt := 92) rfl ?_
      have hw := hw.2.2.2.1 c51
      refine z_aload_n hX dX1_propertyCode_92 rfl (i := 1) rfl ?_
      refine z_ldcS hX (tx := "set") (j := 1) dX1_propertyCode_93 (List.mem_of_getElem? (i := 1) rfl) ?_
      obtain ⟨a46, f47, r48, m49, hw⟩ := hw
      refine z_invV hX hd r48 (ci := 9) rfl rfl m49 dX1_propertyCode_95 (hC 365 _ zm365 _ _ _ _ hw) q2343 q1430 q1431 zh17 q1432 q146 zn365 rfl (Nat.le_of_ble_eq_true rfl) (st := []) rfl (zcs8 (Nat.le_of_ble_eq_true rfl)) rfl (zkI (fun v43 s44 hw => ?_)) (zout hX hR hTb)
      refine z_if_eq hX dX1_propertyCode_98 (tgt := 218) rfl (fun c50 => ?_) (fun c50 => ?_)
      · have hw := hw.1 c50
        refine z_sub (ls' := [none, none, some (.int (-1 : Int32))]) (zsN (zsN (zsS (zs0)))) ?_
        exact hj10 _ _ hw
      · have hw := hw.2 c50
        refine z_iconst hX (v := (0 : Int32)) dX1_propertyCode_101 (by decide) ?_
        refine z_istore_n hX dX1_propertyCode_102 rfl (i := 2) (Nat.le_of_ble_eq_true rfl) (zc_rf _) (ls2 := [some (va_rf x1), some (va_rf x1), some (.int (0 : Int32))]) rfl ?_
        refine z_goto hX dX1_propertyCode_103 (tgt := 218) rfl ?_
        refine z_sub (ls' := [none, none, some (.int (0 : Int32))]) (zsN (zsN (zsS (zs0)))) ?_
        exact hj10 _ _ hw
    by_cases c60 : v1 = 3165055
    · refine z_lookup hX dX1_propertyCode_8 (by decide) (off := 154) (by rw [c60]; decide) (tgt := 162) rfl ?_
      have hw := hw.2.2.2.2.1 c60
      refine z_aload_n hX dX1_propertyCode_162 rfl (i := 1) rfl ?_
      refine z_ldcS hX (tx := "gain") (j := 6) dX1_propertyCode_163 (List.mem_of_getElem? (i := 6) rfl) ?_
      obtain ⟨a55, f56, r57, m58, hw⟩ := hw
      refine z_invV hX hd r57 (ci := 9) rfl rfl m58 dX1_propertyCode_165 (hC 365 _ zm365 _ _ _ _ hw) q2343 q1430 q1431 zh17 q1432 q146 zn365 rfl (Nat.le_of_ble_eq_true rfl) (st := []) rfl (zcs8 (Nat.le_of_ble_eq_true rfl)) rfl (zkI (fun v52 s53 hw => ?_)) (zout hX hR hTb)
      refine z_if_eq hX dX1_propertyCode_168 (tgt := 218) rfl (fun c59 => ?_) (fun c59 => ?_)
      · have hw := hw.1 c59
        refine z_sub (ls' := [none, none, some (.int (-1 : Int32))]) (zsN (zsN (zsS (zs0)))) ?_
        exact hj10 _ _ hw
      · have hw := hw.2 c59
        refine z_iconst hX (v := (5 : Int32)) dX1_propertyCode_171 (by decide) ?_
        refine z_istore_n hX dX1_propertyCode_172 rfl (i := 2) (Nat.le_of_ble_eq_true rfl) (zc_rf _) (ls2 := [some (va_rf x1), some (va_rf x1), some (.int (5 : Int32))]) rfl ?_
        refine z_goto hX dX1_propertyCode_173 (tgt := 218) rfl ?_
        refine z_sub (ls' := [none, none, some (.int (5 : Int32))]) (zsN (zsN (zsS (zs0)))) ?_
        exact hj10 _ _ hw
    by_cases c69 : v1 = 3195124
    · refine z_lookup hX dX1_propertyCode_8 (by decide) (off := 168) (by rw [c69]; decide) (tgt := 176) rfl ?_
      have hw := hw.2.2.2.2.2.1 c69
      refine z_aload_n hX dX1_propertyCode_176 rfl (i := 1) rfl ?_
      refine z_ldcS hX (tx := "harm") (j := 7) dX1_propertyCode_177 (List.mem_of_getElem? (i := 7) rfl) ?_
      obtain ⟨a64, f65, r66, m67, hw⟩ := hw
      refine z_invV hX hd r66 (ci := 9) rfl rfl m67 dX1_propertyCode_179 (hC 365 _ zm365 _ _ _ _ hw) q2343 q1430 q1431 zh17 q1432 q146 zn365 rfl (Nat.le_of_ble_eq_true rfl) (st := []) rfl (zcs8 (Nat.le_of_ble_eq_true rfl)) rfl (zkI (fun v61 s62 hw => ?_)) (zout hX hR hTb)
      refine z_if_eq hX dX1_propertyCode_182 (tgt := 218) rfl (fun c68 => ?_) (fun c68 => ?_)
      · have hw := hw.1 c68
        refine z_sub (ls' := [none, none, some (.int (-1 : Int32))]) (zsN (zsN (zsS (zs0)))) ?_
        exact hj10 _ _ hw
      · have hw := hw.2 c68
        refine z_bipush hX (v := (6 : Int32)) dX1_propertyCode_185 (by decide) ?_
        refine z_istore_n hX dX1_propertyCode_187 rfl (i := 2) (Nat.le_of_ble_eq_true rfl) (zc_rf _) (ls2 := [some (va_rf x1), some (va_rf x1), some (.int (6 : Int32))]) rfl ?_
        refine z_goto hX dX1_propertyCode_188 (tgt := 218) rfl ?_
        refine z_sub (ls' := [none, none, some (.int (6 : Int32))]) (zsN (zsN (zsS (zs0)))) ?_
        exact hj10 _ _ hw
    by_cases c78 : v1 = 3506395
    · refine z_lookup hX dX1_propertyCode_8 (by decide) (off := 126) (by rw [c78]; decide) (tgt := 134) rfl ?_
      have hw := hw.2.2.2.2.2.2.1 c78
      refine z_aload_n hX dX1_propertyCode_134 rfl (i := 1) rfl ?_
      refine z_ldcS hX (tx := "room") (j := 4) dX1_propertyCode_135 (List.mem_of_getElem? (i := 4) rfl) ?_
      obtain ⟨a73, f74, r75, m76, hw⟩ := hw
      refine z_invV hX hd r75 (ci := 9) rfl rfl m76 dX1_propertyCode_137 (hC 365 _ zm365 _ _ _ _ hw) q2343 q1430 q1431 zh17 q1432 q146 zn365 rfl (Nat.le_of_ble_eq_true rfl) (st := []) rfl (zcs8 (Nat.le_of_ble_eq_true rfl)) rfl (zkI (fun v70 s71 hw => ?_)) (zout hX hR hTb)
      refine z_if_eq hX dX1_propertyCode_140 (tgt := 218) rfl (fun c77 => ?_) (fun c77 => ?_)
      · have hw := hw.1 c77
        refine z_sub (ls' := [none, none, some (.int (-1 : Int32))]) (zsN (zsN (zsS (zs0)))) ?_
        exact hj10 _ _ hw
      · have hw := hw.2 c77
        refine z_iconst hX (v := (3 : Int32)) dX1_propertyCode_143 (by decide) ?_
        refine z_istore_n hX dX1_propertyCode_144 rfl (i := 2) (Nat.le_of_ble_eq_true rfl) (zc_rf _) (ls2 := [some (va_rf x1), some (va_rf x1), some (.int (3 : Int32))]) rfl ?_
        refine z_goto hX dX1_propertyCode_145 (tgt := 218) rfl ?_
        refine z_sub (ls' := [none, none, some (.int (3 : Int32))]) (zsN (zsN (zsS (zs0)))) ?_
        exact hj10 _ _ hw
    by_cases c87 : v1 = 100526016
    · refine z_lookup hX dX1_propertyCode_8 (by decide) (off := 98) (by rw [c87]; decide) (tgt := 106) rfl ?_
      have hw := hw.2.2.2.2.2.2.2.1 c87
      refine z_aload_n hX dX1_propertyCode_106 rfl (i := 1) rfl ?_
      refine z_ldcS hX (tx := "items") (j := 2) dX1_propertyCode_107 (List.mem_of_getElem? (i := 2) rfl) ?_
      obtain ⟨a82, f83, r84, m85, hw⟩ := hw
      refine z_invV hX hd r84 (ci := 9) rfl rfl m85 dX1_propertyCode_109 (hC 365 _ zm365 _ _ _ _ hw) q2343 q1430 q1431 zh17 q1432 q146 zn365 rfl (Nat.le_of_ble_eq_true rfl) (st := []) rfl (zcs8 (Nat.le_of_ble_eq_true rfl)) rfl (zkI (fun v79 s80 hw => ?_)) (zout hX hR hTb)
      refine z_if_eq hX dX1_propertyCode_112 (tgt := 218) rfl (fun c86 => ?_) (fun c86 => ?_)
      · have hw := hw.1 c86
        refine z_sub (ls' := [none, none, some (.int (-1 : Int32))]) (zsN (zsN (zsS (zs0)))) ?_
        exact hj10 _ _ hw
      · have hw := hw.2 c86
        refine z_iconst hX (v := (1 : Int32)) dX1_propertyCode_115 (by decide) ?_
        refine z_istore_n hX dX1_propertyCode_116 rfl (i := 2) (Nat.le_of_ble_eq_true rfl) (zc_rf _) (ls2 := [some (va_rf x1), some (va_rf x1), some (.int (1 : Int32))]) rfl ?_
        refine z_goto hX dX1_propertyCode_117 (tgt := 218) rfl ?_
        refine z_sub (ls' := [none, none, some (.int (1 : Int32))]) (zsN (zsN (zsS (zs0)))) ?_
        exact hj10 _ _ hw
    by_cases c96 : v1 = 111972721
    · refine z_lookup hX dX1_propertyCode_8 (by decide) (off := 140) (by rw [c96]; decide) (tgt := 148) rfl ?_
      have hw := hw.2.2.2.2.2.2.2.2.1 c96
      refine z_aload_n hX dX1_propertyCode_148 rfl (i := 1) rfl ?_
      refine z_ldcS hX (tx := "value") (j := 5) dX1_propertyCode_149 (List.mem_of_getElem? (i := 5) rfl) ?_
      obtain ⟨a91, f92, r93, m94, hw⟩ := hw
      refine z_invV hX hd r93 (ci := 9) rfl rfl m94 dX1_propertyCode_151 (hC 365 _ zm365 _ _ _ _ hw) q2343 q1430 q1431 zh17 q1432 q146 zn365 rfl (Nat.le_of_ble_eq_true rfl) (st := []) rfl (zcs8 (Nat.le_of_ble_eq_true rfl)) rfl (zkI (fun v88 s89 hw => ?_)) (zout hX hR hTb)
      refine z_if_eq hX dX1_propertyCode_154 (tgt := 218) rfl (fun c95 => ?_) (fun c95 => ?_)
      · have hw := hw.1 c95
        refine z_sub (ls' := [none, none, some (.int (-1 : Int32))]) (zsN (zsN (zsS (zs0)))) ?_
        exact hj10 _ _ hw
      · have hw := hw.2 c95
        refine z_iconst hX (v := (4 : Int32)) dX1_propertyCode_157 (by decide) ?_
        refine z_istore_n hX dX1_propertyCode_158 rfl (i := 2) (Nat.le_of_ble_eq_true rfl) (zc_rf _) (ls2 := [some (va_rf x1), some (va_rf x1), some (.int (4 : Int32))]) rfl ?_
        refine z_goto hX dX1_propertyCode_159 (tgt := 218) rfl ?_
        refine z_sub (ls' := [none, none, some (.int (4 : Int32))]) (zsN (zsN (zsS (zs0)))) ?_
        exact hj10 _ _ hw
    refine z_lookup hX dX1_propertyCode_8 (by decide) (off := 210) ((lv_osw c24 (by decide)).trans ((lv_osw c33 (by decide)).trans ((lv_osw c42 (by decide)).trans ((lv_osw c51 (by decide)).trans ((lv_osw c60 (by decide)).trans ((lv_osw c69 (by decide)).trans ((lv_osw c78 (by decide)).trans ((lv_osw c87 (by decide)).trans ((lv_osw c96 (by decide)).trans (rfl)))))))))) (tgt := 218) rfl ?_
    have hw := hw.2.2.2.2.2.2.2.2.2 c24 c33 c42 c51 c60 c69 c78 c87 c96
    refine z_sub (ls' := [none, none, some (.int (-1 : Int32))]) (zsN (zsN (zsS (zs0)))) ?_
    exact hj10 _ _ hw
abbrev cX2_init : ByteArray := prog_20_method_1_code
def yX2_init : MethodName := ⟨RX2, "<init>", "()V"⟩
def dkwX2_init_1 : List UInt8 := [181, 0, 18, 42, 187, 0, 9, 89, 183, 0, 11, 181, 0, 21, 177]
abbrev dktX2_init_1 : List UInt8 := dkwX2_init_1 ++ []
def dkwX2_init_0 : List UInt8 := [42, 183, 0, 3, 42, 187, 0, 9, 89, 183, 0, 11, 181, 0, 12, 42, 187, 0, 9, 89, 183, 0, 11]
abbrev dktX2_init_0 : List UInt8 := dkwX2_init_0 ++ dktX2_init_1
theorem dksX2_init_0 : cX2_init.data.toList.drop 0 = dktX2_init_0 := by decide +kernel
theorem dksX2_init_1 : cX2_init.data.toList.drop 23 = dktX2_init_1 := dk_seg dksX2_init_0 23 rfl rfl
theorem dX2_init_0 : decode cX2_init 0 = .ok (.aload_n 0, 1) := dk_42 (dk_at dksX2_init_0 0 rfl rfl)
theorem dX2_init_1 : decode cX2_init 1 = .ok (.invokespecial 3, 3) := dk_183 0 3 (dk_at dksX2_init_0 1 rfl rfl)
theorem dX2_init_4 : decode cX2_init 4 = .ok (.aload_n 0, 1) := dk_42 (dk_at dksX2_init_0 4 rfl rfl)
theorem dX2_init_5 : decode cX2_init 5 = .ok (.new 9, 3) := dk_187 0 9 (dk_at dksX2_init_0 5 rfl rfl)
theorem dX2_init_8 : decode cX2_init 8 = .ok (.dup, 1) := dk_89 (dk_at dksX2_init_0 8 rfl rfl)
theorem dX2_init_9 : decode cX2_init 9 = .ok (.invokespecial 11, 3) := dk_183 0 11 (dk_at dksX2_init_0 9 rfl rfl)
theorem dX2_init_12 : decode cX2_init 12 = .ok (.putfield 12, 3) := dk_181 0 12 (dk_at dksX2_init_0 12 rfl rfl)
theorem dX2_init_15 : decode cX2_init 15 = .ok (.aload_n 0, 1) := dk_42 (dk_at dksX2_init_0 15 rfl rfl)
theorem dX2_init_16 : decode cX2_init 16 = .ok (.new 9, 3) := dk_187 0 9 (dk_at dksX2_init_0 16 rfl rfl)
theorem dX2_init_19 : decode cX2_init 19 = .ok (.dup, 1) := dk_89 (dk_at dksX2_init_0 19 rfl rfl)
theorem dX2_init_20 : decode cX2_init 20 = .ok (.invokespecial 11, 3) := dk_183 0 11 (dk_at dksX2_init_0 20 rfl rfl)
theorem dX2_init_23 : decode cX2_init 23 = .ok (.putfield 18, 3) := dk_181 0 18 (dk_at dksX2_init_1 0 rfl rfl)
theorem dX2_init_26 : decode cX2_init 26 = .ok (.aload_n 0, 1) := dk_42 (dk_at dksX2_init_1 3 rfl rfl)
theorem dX2_init_27 : decode cX2_init 27 = .ok (.new 9, 3) := dk_187 0 9 (dk_at dksX2_init_1 4 rfl rfl)
theorem dX2_init_30 : decode cX2_init 30 = .ok (.dup, 1) := dk_89 (dk_at dksX2_init_1 7 rfl rfl)
theorem dX2_init_31 : decode cX2_init 31 = .ok (.invokespecial 11, 3) := dk_183 0 11 (dk_at dksX2_init_1 8 rfl rfl)
theorem dX2_init_34 : decode cX2_init 34 = .ok (.putfield 21, 3) := dk_181 0 21 (dk_at dksX2_init_1 11 rfl rfl)
theorem dX2_init_37 : decode cX2_init 37 = .ok (.return_, 1) := dk_177 (dk_at dksX2_init_1 14 rfl rfl)
/-- PackingDuel$State.<init>()V -/
def zb81 (G : zPg) (C : zO) (args : List Value) (Q : zQ) (Y : zY) (σ : zS) : Prop := ∃ (a0 : Nat), args = [.ref a0] ∧ ((∃ a1, (some a0) = some a1 ∧ znew σ 2 [.int 0, va_rf none, .int 0] 3 (fun s3 => (∃ a9, (some σ.2.1) = some a9 ∧ zcl C 127 [.ref a9] Y s3 (zqV (fun s7 => zput s7 G.1 (some a0) 1 0 (va_rf (some σ.2.1)) (fun s11 => znew s11 2 [.int 0, va_rf none, .int 0] 3 (fun s19 => (∃ a25, (some s11.2.1) = some a25 ∧ zcl C 127 [.ref a25] Y s19 (zqV (fun s23 => zput s23 G.1 (some a0) 1 1 (va_rf (some s11.2.1)) (fun s27 => znew s27 2 [.int 0, va_rf none, .int 0] 3 (fun s35 => (∃ a41, (some s27.2.1) = some a41 ∧ zcl C 127 [.ref a41] Y s35 (zqV (fun s39 => zput s39 G.1 (some a0) 1 2 (va_rf (some s27.2.1)) (fun s43 => Q none s43)))))))))))))))))
set_option maxHeartbeats 4000000 in
theorem wk81 {l : Launch} {g : zG} {d : Nat} {C : zO} (hG : zGk g) (hC : zSound l g d C) {args : List Value} {Q : zQ} {Y : zY} {σ : zS} (hw : zb81 (zpg g) C args Q Y σ) : zMet l g (d + 1) (⟨"PackingDuel$State", "<init>", "()V"⟩, Cond.code ⟨"PackingDuel$State", "<init>", "()V"⟩ prog_20_method_1_code 1 (Option.none : Option FieldType)) args σ Q Y := by
  obtain ⟨a0, rfl, hw⟩ := hw
  refine zof hG (by decide +kernel) [false] ⟨rfl, trivial⟩ (Nat.le_of_ble_eq_true rfl) (ls := [some (va_rf (some a0))]) rfl ?_
  intro X hX hR hTb hd1 hd2 hl hg hnm
  subst hl
  subst hg
  have hd : zDep X d := ⟨hd1, hd2⟩
  refine z_aload_n hX dX2_init_0 rfl (i := 0) rfl ?_
  obtain ⟨a1, r2, hw⟩ := hw
  refine z_oinit hX hd dX2_init_1 q198 q191 q192 r2 rfl (zcs8 (Nat.le_of_ble_eq_true rfl)) ?_
  refine z_aload_n hX dX2_init_4 rfl (i := 0) rfl ?_
  refine z_new hX zc2 dX2_init_5 q199 q200 q134 (fs := [.int 0, va_rf none, .int 0]) (fun j hj => by have hj : j < 3 := hj; exact zdf2 j hj) hw.1 hw.2.1 (fun z4 => z_nm (fun s3 e5 => ?_))
  have hw := hw.2.2 z4 s3 e5
  refine z_dup hX dX2_init_8 (zc_rf _) ?_
  obtain ⟨a9, r10, hw⟩ := hw
  refine z_invI hX hd r10 dX2_init_9 (hC 127 _ zm127 _ _ _ _ hw) q201 q202 rfl zh5 q203 q134 zn127 rfl (Nat.le_of_ble_eq_true rfl) (st := [va_rf (some σ.2.1), va_rf (some a0)]) rfl (zcs8 (Nat.le_of_ble_eq_true rfl)) rfl (zkV (fun s7 hw => ?_)) (zout hX hR hTb)
  obtain ⟨a13, f14, r15, g16, m17, l18, hw⟩ := hw
  refine z_putF hX zc1 (k := 0) dX2_init_12 (Nat.le_of_ble_eq_true rfl) q225 rfl hnm rfl (zn_o _ _) (zf_o _ _) r15 g16 m17 l18 (z_nm (fun s11 e12 => ?_))
  have hw := hw s11 e12
  refine z_aload_n hX dX2_init_15 rfl (i := 0) rfl ?_
  refine z_new hX zc2 dX2_init_16 q199 q200 q134 (fs := [.int 0, va_rf none, .int 0]) (fun j hj => by have hj : j < 3 := hj; exact zdf2 j hj) hw.1 hw.2.1 (fun z20 => z_nm (fun s19 e21 => ?_))
  have hw := hw.2.2 z20 s19 e21
  refine z_dup hX dX2_init_19 (zc_rf _) ?_
  obtain ⟨a25, r26, hw⟩ := hw
  refine z_invI hX hd r26 dX2_init_20 (hC 127 _ zm127 _ _ _ _ hw) q201 q202 rfl zh5 q203 q134 zn127 rfl (Nat.le_of_ble_eq_true rfl) (st := [va_rf (some s11.2.1), va_rf (some a0)]) rfl (zcs8 (Nat.le_of_ble_eq_true rfl)) rfl (zkV (fun s23 hw => ?_)) (zout hX hR hTb)
  obtain ⟨a29, f30, r31, g32, m33, l34, hw⟩ := hw
  refine z_putF hX zc1 (k := 1) dX2_init_23 (Nat.le_of_ble_eq_true rfl) q229 rfl hnm rfl (zn_o _ _) (zf_o _ _) r31 g32 m33 l34 (z_nm (fun s27 e28 => ?_))
  have hw := hw s27 e28
  refine z_aload_n hX dX2_init_26 rfl (i := 0) rfl ?_
  refine z_new hX zc2 dX2_init_27 q199 q200 q134 (fs := [.int 0, va_rf none, .int 0]) (fun j hj => by have hj : j < 3 := hj; exact zdf2 j hj) hw.1 hw.2.1 (fun z36 => z_nm (fun s35 e37 => ?_))
  have hw := hw.2.2 z36 s35 e37
  refine z_dup hX dX2_init_30 (zc_rf _) ?_
  obtain ⟨a41, r42, hw⟩ := hw
  refine z_invI hX hd r42 dX2_init_31 (hC 127 _ zm127 _ _ _ _ hw) q201 q202 rfl zh5 q203 q134 zn127 rfl (Nat.le_of_ble_eq_true rfl) (st := [va_rf (some s27.2.1), va_rf (some a0)]) rfl (zcs8 (Nat.le_of_ble_eq_true rfl)) rfl (zkV (fun s39 hw => ?_)) (zout hX hR hTb)
  obtain ⟨a45, f46, r47, g48, m49, l50, hw⟩ := hw
  refine z_putF hX zc1 (k := 2) dX2_init_34 (Nat.le_of_ble_eq_true rfl) q231 rfl hnm rfl (zn_o _ _) (zf_o _ _) r47 g48 m49 l50 (z_nm (fun s43 e44 => ?_))
  have hw := hw s43 e44
  exact z_return hX hR dX2_init_37 hw
abbrev cX2_plansWith : ByteArray := prog_20_method_14_code
def yX2_plansWith : MethodName := ⟨RX2, "plansWith", "(II)I"⟩
def dkwX2_plansWith_2 : List UInt8 := [132, 4, 1, 167, 255, 210, 29, 172]
abbrev dktX2_plansWith_2 : List UInt8 := dkwX2_plansWith_2 ++ []
def dkwX2_plansWith_1 : List UInt8 := [153, 0, 18, 42, 21, 4, 28, 182, 0, 126, 27, 161, 0, 7, 4, 167, 0, 4, 3, 184, 0, 130, 96, 62]
abbrev dktX2_plansWith_1 : List UInt8 := dkwX2_plansWith_1 ++ dktX2_plansWith_2
def dkwX2_plansWith_0 : List UInt8 := [3, 62, 3, 54, 4, 21, 4, 42, 182, 0, 80, 182, 0, 83, 162, 0, 40, 29, 42, 21, 4, 182, 0, 111]
abbrev dktX2_plansWith_0 : List UInt8 := dkwX2_plansWith_0 ++ dktX2_plansWith_1
theorem dksX2_plansWith_0 : cX2_plansWith.data.toList.drop 0 = dktX2_plansWith_0 := by decide +kernel
theorem dksX2_plansWith_1 : cX2_plansWith.data.toList.drop 24 = dktX2_plansWith_1 := dk_seg dksX2_plansWith_0 24 rfl rfl
theorem dksX2_plansWith_2 : cX2_plansWith.data.toList.drop 48 = dktX2_plansWith_2 := dk_seg dksX2_plansWith_1 24 rfl rfl
theorem dX2_plansWith_0 : decode cX2_plansWith 0 = .ok (.iconst 0, 1) := dk_3 (dk_at dksX2_plansWith_0 0 rfl rfl)
theorem dX2_plansWith_1 : decode cX2_plansWith 1 = .ok (.istore_n 3, 1) := dk_62 (dk_at dksX2_plansWith_0 1 rfl rfl)
theorem dX2_plansWith_2 : decode cX2_plansWith 2 = .ok (.iconst 0, 1) := dk_3 (dk_at dksX2_plansWith_0 2 rfl rfl)
theorem dX2_plansWith_3 : decode cX2_plansWith 3 = .ok (.istore 4, 2) := dk_54 4 (dk_at dksX2_plansWith_0 3 rfl rfl)
theorem dX2_plansWith_5 : decode cX2_plansWith 5 = .ok (.iload 4, 2) := dk_21 4 (dk_at dksX2_plansWith_0 5 rfl rfl)
theorem dX2_plansWith_7 : decode cX2_plansWith 7 = .ok (.aload_n 0, 1) := dk_42 (dk_at dksX2_plansWith_0 7 rfl rfl)
theorem dX2_plansWith_8 : decode cX2_plansWith 8 = .ok (.invokevirtual 80, 3) := dk_182 0 80 (dk_at dksX2_plansWith_0 8 rfl rfl)
theorem dX2_plansWith_11 : decode cX2_plansWith 11 = .ok (.invokevirtual 83, 3) := dk_182 0 83 (dk_at dksX2_plansWith_0 11 rfl rfl)
theorem dX2_plansWith_14 : decode cX2_plansWith 14 = .ok (.if_icmp .ge 40, 3) := dk_162 0 40 (dk_at dksX2_plansWith_0 14 rfl rfl)
theorem dX2_plansWith_17 : decode cX2_plansWith 17 = .ok (.iload_n 3, 1) := dk_29 (dk_at dksX2_plansWith_0 17 rfl rfl)
theorem dX2_plansWith_18 : decode cX2_plansWith 18 = .ok (.aload_n 0, 1) := dk_42 (dk_at dksX2_plansWith_0 18 rfl rfl)
theorem dX2_plansWith_19 : decode cX2_plansWith 19 = .ok (.iload 4, 2) := dk_21 4 (dk_at dksX2_plansWith_0 19 rfl rfl)
theorem dX2_plansWith_21 : decode cX2_plansWith 21 = .ok (.invokevirtual 111, 3) := dk_182 0 111 (dk_at dksX2_plansWith_0 21 rfl rfl)
theorem dX2_plansWith_24 : decode cX2_plansWith 24 = .ok (.ifCond .eq 18, 3) := dk_153 0 18 (dk_at dksX2_plansWith_1 0 rfl rfl)
theorem dX2_plansWith_27 : decode cX2_plansWith 27 = .ok (.aload_n 0, 1) := dk_42 (dk_at dksX2_plansWith_1 3 rfl rfl)
theorem dX2_plansWith_28 : decode cX2_plansWith 28 = .ok (.iload 4, 2) := dk_21 4 (dk_at dksX2_plansWith_1 4 rfl rfl)
theorem dX2_plansWith_30 : decode cX2_plansWith 30 = .ok (.iload_n 2, 1) := dk_28 (dk_at dksX2_plansWith_1 6 rfl rfl)
theorem dX2_plansWith_31 : decode cX2_plansWith 31 = .ok (.invokevirtual 126, 3) := dk_182 0 126 (dk_at dksX2_plansWith_1 7 rfl rfl)
theorem dX2_plansWith_34 : decode cX2_plansWith 34 = .ok (.iload_n 1, 1) := dk_27 (dk_at dksX2_plansWith_1 10 rfl rfl)
theorem dX2_plansWith_35 : decode cX2_plansWith 35 = .ok (.if_icmp .lt 7, 3) := dk_161 0 7 (dk_at dksX2_plansWith_1 11 rfl rfl)
theorem dX2_plansWith_38 : decode cX2_plansWith 38 = .ok (.iconst 1, 1) := dk_4 (dk_at dksX2_plansWith_1 14 rfl rfl)
theorem dX2_plansWith_39 : decode cX2_plansWith 39 = .ok (.goto 4, 3) := dk_167 0 4 (dk_at dksX2_plansWith_1 15 rfl rfl)
theorem dX2_plansWith_42 : decode cX2_plansWith 42 = .ok (.iconst 0, 1) := dk_3 (dk_at dksX2_plansWith_1 18 rfl rfl)
theorem dX2_plansWith_43 : decode cX2_plansWith 43 = .ok (.invokestatic 130, 3) := dk_184 0 130 (dk_at dksX2_plansWith_1 19 rfl rfl)
theorem dX2_plansWith_46 : decode cX2_plansWith 46 = .ok (.iadd, 1) := dk_96 (dk_at dksX2_plansWith_1 22 rfl rfl)
theorem dX2_plansWith_47 : decode cX2_plansWith 47 = .ok (.istore_n 3, 1) := dk_62 (dk_at dksX2_plansWith_1 23 rfl rfl)
theorem dX2_plansWith_48 : decode cX2_plansWith 48 = .ok (.iinc 4 1, 3) := dk_132 4 1 (dk_at dksX2_plansWith_2 0 rfl rfl)
theorem dX2_plansWith_51 : decode cX2_plansWith 51 = .ok (.goto (-46), 3) := dk_167 255 210 (dk_at dksX2_plansWith_2 3 rfl rfl)
theorem dX2_plansWith_54 : decode cX2_plansWith 54 = .ok (.iload_n 3, 1) := dk_29 (dk_at dksX2_plansWith_2 6 rfl rfl)
theorem dX2_plansWith_55 : decode cX2_plansWith 55 = .ok (.ireturn, 1) := dk_172 (dk_at dksX2_plansWith_2 7 rfl rfl)
/-- PackingDuel$State.plansWith(II)I -/
def zb82 (G : zPg) (C : zO) (args : List Value) (Q : zQ) (Y : zY) (σ : zS) : Prop := ∃ (a0 : Nat) (x1 : Int32) (x2 : Int32), args = [.ref a0, .int x1, .int x2] ∧ (∃ n, zIt (fun _ _ _ => False) (fun rec4 (p1 : Int32) (p2 : Int32) (s3 : zS) => zrc s3 (some a0) 1 (fun a8 => zcl C 83 [.ref a8] Y s3 (zqR (fun v5 s6 => zrc s6 v5 14 (fun a15 => zcl C 452 [.ref a15] Y s6 (zqI (fun v12 s13 => ((v12 ≤ p2) → Q (some (.int p1)) s13) ∧ ((¬ v12 ≤ p2) → zrc s13 (some a0) 1 (fun a23 => zcl C 84 [.ref a23, .int p2] Y s13 (zqI (fun v20 s21 => zJ (fun (p27 : Int32) (s28 : zS) => zcl C 27 [.int p27] Y s28 (zqI (fun v30 s31 => (∀ v33 : Int32, v33 = p2 + (1 : Int32) → rec4 (p1 + v30) v33 s31)))) (fun (j29 : Int32 → zS → Prop) => zJ (fun  (s35 : zS) => j29 (0 : Int32) s35) (fun (j36 : zS → Prop) => ((v20 = 0) → j36 s21) ∧ ((¬ v20 = 0) → zrc s21 (some a0) 1 (fun a41 => zcl C 85 [.ref a41, .int p2, .int x2] Y s21 (zqI (fun v38 s39 => ((v38 < x1) → j36 s39) ∧ ((¬ v38 < x1) → j29 (1 : Int32) s39)))))))))))))))))) n (0 : Int32) (0 : Int32) σ)
set_option maxHeartbeats 4000000 in
theorem wk82 {l : Launch} {g : zG} {d : Nat} {C : zO} (hG : zGk g) (hC : zSound l g d C) {args : List Value} {Q : zQ} {Y : zY} {σ : zS} (hw : zb82 (zpg g) C args Q Y σ) : zMet l g (d + 1) (⟨"PackingDuel$State", "plansWith", "(II)I"⟩, Cond.code ⟨"PackingDuel$State", "plansWith", "(II)I"⟩ prog_20_method_14_code 5 (Option.some FieldType.int)) args σ Q Y := by
  obtain ⟨a0, x1, x2, rfl, hw⟩ := hw
  refine zof hG (by decide +kernel) [false, false, false] ⟨rfl, rfl, rfl, trivial⟩ (Nat.le_of_ble_eq_true rfl) (ls := [some (va_rf (some a0)), some (.int x1), some (.int x2), none, none]) rfl ?_
  intro X hX hR hTb hd1 hd2 hl hg hnm
  subst hl
  subst hg
  have hd : zDep X d := ⟨hd1, hd2⟩
  refine z_iconst hX (v := (0 : Int32)) dX2_plansWith_0 (by decide) ?_
  refine z_istore_n hX dX2_plansWith_1 rfl (i := 3) (Nat.le_of_ble_eq_true rfl) rfl (ls2 := [some (va_rf (some a0)), some (.int x1), some (.int x2), some (.int (0 : Int32)), none]) rfl ?_
  refine z_iconst hX (v := (0 : Int32)) dX2_plansWith_2 (by decide) ?_
  refine z_istore hX dX2_plansWith_3 (i := 4) (Nat.le_of_ble_eq_true rfl) rfl (ls2 := [some (va_rf (some a0)), some (.int x1), some (.int x2), some (.int (0 : Int32)), some (.int (0 : Int32))]) rfl ?_
  obtain ⟨n46, hw⟩ := hw
  refine zIt_w (P := fun (j : Int32 → Int32 → zS → Prop) => ∀ (p1 : Int32) (p2 : Int32) (s3 : zS), j p1 p2 s3 → zW X s3 5 [some (va_rf (some a0)), some (.int x1), some (.int x2), some (.int p1), some (.int p2)] []) (fun _ _ _ h => h.elim) (fun rec4 hrec4 p1 p2 s3 hw => ?_) n46 _ _ _ hw
  refine z_iload hX dX2_plansWith_5 (i := 4) rfl ?_
  refine z_aload_n hX dX2_plansWith_7 rfl (i := 0) rfl ?_
  obtain ⟨a8, f9, r10, m11, hw⟩ := hw
  refine z_invV hX hd r10 (ci := 1) rfl rfl m11 dX2_plansWith_8 (hC 83 _ zm83 _ _ _ _ hw) q351 q352 q353 zh2 q354 q131 zn83 rfl (Nat.le_of_ble_eq_true rfl) (st := [.int p2]) rfl (zcs8 (Nat.le_of_ble_eq_true rfl)) rfl (zkR (fun v5 s6 hw => ?_)) (zout hX hR hTb)
  obtain ⟨a15, f16, r17, m18, hw⟩ := hw
  refine z_invV hX hd r17 (ci := 14) rfl rfl m18 dX2_plansWith_11 (hC 452 _ zm452 _ _ _ _ hw) q395 q396 q397 zh30 q398 q161 zn452 rfl (Nat.le_of_ble_eq_true rfl) (st := [.int p2]) rfl (zcs8 (Nat.le_of_ble_eq_true rfl)) rfl (zkI (fun v12 s13 hw => ?_)) (zout hX hR hTb)
  refine z_icmp_ge hX dX2_plansWith_14 (tgt := 54) rfl (fun c19 => ?_) (fun c19 => ?_)
  · have hw := hw.1 c19
    refine z_iload_n hX dX2_plansWith_54 rfl (i := 3) rfl ?_
    exact z_ireturn hX hR dX2_plansWith_55 rfl hw
  · have hw := hw.2 c19
    refine z_iload_n hX dX2_plansWith_17 rfl (i := 3) rfl ?_
    refine z_aload_n hX dX2_plansWith_18 rfl (i := 0) rfl ?_
    refine z_iload hX dX2_plansWith_19 (i := 4) rfl ?_
    obtain ⟨a23, f24, r25, m26, hw⟩ := hw
    refine z_invV hX hd r25 (ci := 1) rfl rfl m26 dX2_plansWith_21 (hC 84 _ zm84 _ _ _ _ hw) q399 q400 q401 zh2 q402 q131 zn84 rfl (Nat.le_of_ble_eq_true rfl) (st := [.int p1]) rfl (zcs8 (Nat.le_of_ble_eq_true rfl)) rfl (zkI (fun v20 s21 hw => ?_)) (zout hX hR hTb)
    refine zJ_w (P := fun (j : Int32 → zS → Prop) => ∀ (p27 : Int32) (s28 : zS), j p27 s28 → zW X s28 43 [some (va_rf (some a0)), some (.int x1), some (.int x2), none, some (.int p2)] [.int p27, .int p1]) hw (fun p27 s28 hw => ?_) (fun j29 hj29 hw => ?_)
    · refine z_invSN hX hd dX2_plansWith_43 (hC 27 _ zm27 _ _ _ _ hw) q445 q446 zh1 q447 q130 zn27 rfl (Nat.le_of_ble_eq_true rfl) (st := [.int p1]) rfl (zcs8 (Nat.le_of_ble_eq_true rfl)) rfl (zkI (fun v30 s31 hw => ?_)) (zout hX hR hTb)
      refine z_iadd hX dX2_plansWith_46 ?_
      refine z_istore_n hX dX2_plansWith_47 rfl (i := 3) (Nat.le_of_ble_eq_true rfl) rfl (ls2 := [some (va_rf (some a0)), some (.int x1), some (.int x2), some (.int (p1 + v30)), some (.int p2)]) rfl ?_
      obtain ⟨v33, e34⟩ : ∃ y : Int32, y = p2 + (1 : Int32) := ⟨_, rfl⟩
      refine z_iinc hX dX2_plansWith_48 (i := 4) (v := v33) rfl (by rw [e34]; rfl) (Nat.le_of_ble_eq_true rfl) rfl (ls2 := [some (va_rf (some a0)), some (.int x1), some (.int x2), some (.int (p1 + v30)), some (.int v33)]) rfl ?_
      have hw := hw v33 e34
      refine z_goto hX dX2_plansWith_51 (tgt := 5) rfl ?_
      exact hrec4 _ _ _ hw
    · refine zJ_w (P := fun (j : zS → Prop) => ∀  (s35 : zS), j  s35 → zW X s35 42 [some (va_rf (some a0)), some (.int x1), some (.int x2), none, some (.int p2)] [.int p1]) hw (fun  s35 hw => ?_) (fun j36 hj36 hw => ?_)
      · refine z_iconst hX (v := (0 : Int32)) dX2_plansWith_42 (by decide) ?_
        exact hj29 _ _ hw
      · refine z_if_eq hX dX2_plansWith_24 (tgt := 42) rfl (fun c37 => ?_) (fun c37 => ?_)
        · have hw := hw.1 c37
          refine z_sub (ls' := [some (va_rf (some a0)), some (.int x1), some (.int x2), none, some (.int p2)]) (zsS (zsS (zsS (zsN (zsS (zs0)))))) ?_
          exact hj36  _ hw
        · have hw := hw.2 c37
          refine z_aload_n hX dX2_plansWith_27 rfl (i := 0) rfl ?_
          refine z_iload hX dX2_plansWith_28 (i := 4) rfl ?_
          refine z_iload_n hX dX2_plansWith_30 rfl (i := 2) rfl ?_
          obtain ⟨a41, f42, r43, m44, hw⟩ := hw
          refine z_invV hX hd r43 (ci := 1) rfl rfl m44 dX2_plansWith_31 (hC 85 _ zm85 _ _ _ _ hw) q407 q408 q409 zh2 q410 q131 zn85 rfl (Nat.le_of_ble_eq_true rfl) (st := [.int p1]) rfl (zcs8 (Nat.le_of_ble_eq_true rfl)) rfl (zkI (fun v38 s39 hw => ?_)) (zout hX hR hTb)
          refine z_iload_n hX dX2_plansWith_34 rfl (i := 1) rfl ?_
          refine z_icmp_lt hX dX2_plansWith_35 (tgt := 42) rfl (fun c45 => ?_) (fun c45 => ?_)
          · have hw := hw.1 c45
            refine z_sub (ls' := [some (va_rf (some a0)), some (.int x1), some (.int x2), none, some (.int p2)]) (zsS (zsS (zsS (zsN (zsS (zs0)))))) ?_
            exact hj36  _ hw
          · have hw := hw.2 c45
            refine z_iconst hX (v := (1 : Int32)) dX2_plansWith_38 (by decide) ?_
            refine z_goto hX dX2_plansWith_39 (tgt := 43) rfl ?_
            refine z_sub (ls' := [some (va_rf (some a0)), some (.int x1), some (.int x2), none, some (.int p2)]) (zsS (zsS (zsS (zsN (zsS (zs0)))))) ?_
            exact hj29 _ _ hw
abbrev cX2_sums : ByteArray := prog_20_method_4_code
def yX2_sums : MethodName := ⟨RX2, "sums", "()LPackingDuel$Sums;"⟩
def dkwX2_sums_1 : List UInt8 := [180, 0, 71, 176]
abbrev dktX2_sums_1 : List UInt8 := dkwX2_sums_1 ++ []
def dkwX2_sums_0 : List UInt8 := [42, 180, 0, 71, 199, 0, 18, 42, 187, 0, 75, 89, 42, 180, 0, 12, 183, 0, 77, 181, 0, 71, 42]
abbrev dktX2_sums_0 : List UInt8 := dkwX2_sums_0 ++ dktX2_sums_1
theorem dksX2_sums_0 : cX2_sums.data.toList.drop 0 = dktX2_sums_0 := by decide +kernel
theorem dksX2_sums_1 : cX2_sums.data.toList.drop 23 = dktX2_sums_1 := dk_seg dksX2_sums_0 23 rfl rfl
theorem dX2_sums_0 : decode cX2_sums 0 = .ok (.aload_n 0, 1) := dk_42 (dk_at dksX2_sums_0 0 rfl rfl)
theorem dX2_sums_1 : decode cX2_sums 1 = .ok (.getfield 71, 3) := dk_180 0 71 (dk_at dksX2_sums_0 1 rfl rfl)
theorem dX2_sums_4 : decode cX2_sums 4 = .ok (.ifnonnull 18, 3) := dk_199 0 18 (dk_at dksX2_sums_0 4 rfl rfl)
theorem dX2_sums_7 : decode cX2_sums 7 = .ok (.aload_n 0, 1) := dk_42 (dk_at dksX2_sums_0 7 rfl rfl)
theorem dX2_sums_8 : decode cX2_sums 8 = .ok (.new 75, 3) := dk_187 0 75 (dk_at dksX2_sums_0 8 rfl rfl)
theorem dX2_sums_11 : decode cX2_sums 11 = .ok (.dup, 1) := dk_89 (dk_at dksX2_sums_0 11 rfl rfl)
theorem dX2_sums_12 : decode cX2_sums 12 = .ok (.aload_n 0, 1) := dk_42 (dk_at dksX2_sums_0 12 rfl rfl)
theorem dX2_sums_13 : decode cX2_sums 13 = .ok (.getfield 12, 3) := dk_180 0 12 (dk_at dksX2_sums_0 13 rfl rfl)
theorem dX2_sums_16 : decode cX2_sums 16 = .ok (.invokespecial 77, 3) := dk_183 0 77 (dk_at dksX2_sums_0 16 rfl rfl)
theorem dX2_sums_19 : decode cX2_sums 19 = .ok (.putfield 71, 3) := dk_181 0 71 (dk_at dksX2_sums_0 19 rfl rfl)
theorem dX2_sums_22 : decode cX2_sums 22 = .ok (.aload_n 0, 1) := dk_42 (dk_at dksX2_sums_0 22 rfl rfl)
theorem dX2_sums_23 : decode cX2_sums 23 = .ok (.getfield 71, 3) := dk_180 0 71 (dk_at dksX2_sums_1 0 rfl rfl)
theorem dX2_sums_26 : decode cX2_sums 26 = .ok (.areturn, 1) := dk_176 (dk_at dksX2_sums_1 3 rfl rfl)
/-- PackingDuel$State.sums()LPackingDuel$Sums; -/
def zb83 (G : zPg) (C : zO) (args : List Value) (Q : zQ) (Y : zY) (σ : zS) : Prop := ∃ (a0 : Nat), args = [.ref a0] ∧ (zgR σ (some a0) 1 11 (fun v1 => zJ (fun  (s7 : zS) => zgR s7 (some a0) 1 11 (fun v9 => Q (some (va_rf v9)) s7)) (fun (j8 : zS → Prop) => ((¬ v1 = none) → j8 σ) ∧ ((v1 = none) → znew σ 14 [va_rf none] 1 (fun s16 => zgR s16 (some a0) 1 0 (fun v19 => (∃ a28, (some σ.2.1) = some a28 ∧ zcl C 451 [.ref a28, va_rf v19] Y s16 (zqV (fun s26 => zput s26 G.1 (some a0) 1 11 (va_rf (some σ.2.1)) (fun s30 => j8 s30))))))))))
set_option maxHeartbeats 4000000 in
theorem wk83 {l : Launch} {g : zG} {d : Nat} {C : zO} (hG : zGk g) (hC : zSound l g d C) {args : List Value} {Q : zQ} {Y : zY} {σ : zS} (hw : zb83 (zpg g) C args Q Y σ) : zMet l g (d + 1) (⟨"PackingDuel$State", "sums", "()LPackingDuel$Sums;"⟩, Cond.code ⟨"PackingDuel$State", "sums", "()LPackingDuel$Sums;"⟩ prog_20_method_4_code 1 (Option.some (FieldType.object "PackingDuel$Sums"))) args σ Q Y := by
  obtain ⟨a0, rfl, hw⟩ := hw
  refine zof hG (by decide +kernel) [false] ⟨rfl, trivial⟩ (Nat.le_of_ble_eq_true rfl) (ls := [some (va_rf (some a0))]) rfl ?_
  intro X hX hR hTb hd1 hd2 hl hg hnm
  subst hl
  subst hg
  have hd : zDep X d := ⟨hd1, hd2⟩
  refine z_aload_n hX dX2_sums_0 rfl (i := 0) rfl ?_
  obtain ⟨a2, f3, v1, r4, m5, e6, hw⟩ := hw
  refine z_get hX zc1 (k := 11) dX2_sums_1 (Nat.le_of_ble_eq_true rfl) (zlk hX q253) r4 m5 e6 ?_
  refine zJ_w (P := fun (j : zS → Prop) => ∀  (s7 : zS), j  s7 → zW X s7 22 [some (va_rf (some a0))] []) hw (fun  s7 hw => ?_) (fun j8 hj8 hw => ?_)
  · refine z_aload_n hX dX2_sums_22 rfl (i := 0) rfl ?_
    obtain ⟨a10, f11, v9, r12, m13, e14, hw⟩ := hw
    refine z_get hX zc1 (k := 11) dX2_sums_23 (Nat.le_of_ble_eq_true rfl) (zlk hX q253) r12 m13 e14 ?_
    exact z_areturn hX hR dX2_sums_26 (Or.inl ⟨_, rfl⟩) hw
  · refine z_ifnonnull hX dX2_sums_4 (tgt := 22) rfl (fun c15 => ?_) (fun c15 => ?_)
    · have hw := hw.1 c15
      exact hj8  _ hw
    · have hw := hw.2 c15
      refine z_aload_n hX dX2_sums_7 rfl (i := 0) rfl ?_
      refine z_new hX zc14 dX2_sums_8 q355 q356 q161 (fs := [va_rf none]) (fun j hj => by have hj : j < 1 := hj; exact zdf14 j hj) hw.1 hw.2.1 (fun z17 => z_nm (fun s16 e18 => ?_))
      have hw := hw.2.2 z17 s16 e18
      refine z_dup hX dX2_sums_11 (zc_rf _) ?_
      refine z_aload_n hX dX2_sums_12 rfl (i := 0) rfl ?_
      obtain ⟨a20, f21, v19, r22, m23, e24, hw⟩ := hw
      refine z_get hX zc1 (k := 0) dX2_sums_13 (Nat.le_of_ble_eq_true rfl) (zlk hX q225) r22 m23 e24 ?_
      obtain ⟨a28, r29, hw⟩ := hw
      refine z_invI hX hd r29 dX2_sums_16 (hC 451 _ zm451 _ _ _ _ hw) q357 q358 rfl zh30 q359 q161 zn451 rfl (Nat.le_of_ble_eq_true rfl) (st := [va_rf (some σ.2.1), va_rf (some a0)]) rfl (zcs8 (Nat.le_of_ble_eq_true rfl)) rfl (zkV (fun s26 hw => ?_)) (zout hX hR hTb)
      obtain ⟨a32, f33, r34, g35, m36, l37, hw⟩ := hw
      refine z_put hX zc1 (k := 11) dX2_sums_19 (Nat.le_of_ble_eq_true rfl) (zlk hX q253) rfl (zn_o _ _) (zf_o _ _) r34 g35 m36 l37 (z_nm (fun s30 e31 => ?_))
      have hw := hw s30 e31
      exact hj8  _ hw
abbrev cX2_fits : ByteArray := prog_20_method_6_code
def yX2_fits : MethodName := ⟨RX2, "fits", "(I)Z"⟩
def dkwX2_fits_0 : List UInt8 := [42, 182, 0, 80, 27, 182, 0, 90, 42, 180, 0, 41, 163, 0, 7, 4, 167, 0, 4, 3, 172]
abbrev dktX2_fits_0 : List UInt8 := dkwX2_fits_0 ++ []
theorem dksX2_fits_0 : cX2_fits.data.toList.drop 0 = dktX2_fits_0 := by decide +kernel
theorem dX2_fits_0 : decode cX2_fits 0 = .ok (.aload_n 0, 1) := dk_42 (dk_at dksX2_fits_0 0 rfl rfl)
theorem dX2_fits_1 : decode cX2_fits 1 = .ok (.invokevirtual 80, 3) := dk_182 0 80 (dk_at dksX2_fits_0 1 rfl rfl)
theorem dX2_fits_4 : decode cX2_fits 4 = .ok (.iload_n 1, 1) := dk_27 (dk_at dksX2_fits_0 4 rfl rfl)
theorem dX2_fits_5 : decode cX2_fits 5 = .ok (.invokevirtual 90, 3) := dk_182 0 90 (dk_at dksX2_fits_0 5 rfl rfl)
theorem dX2_fits_8 : decode cX2_fits 8 = .ok (.aload_n 0, 1) := dk_42 (dk_at dksX2_fits_0 8 rfl rfl)
theorem dX2_fits_9 : decode cX2_fits 9 = .ok (.getfield 41, 3) := dk_180 0 41 (dk_at dksX2_fits_0 9 rfl rfl)
theorem dX2_fits_12 : decode cX2_fits 12 = .ok (.if_icmp .gt 7, 3) := dk_163 0 7 (dk_at dksX2_fits_0 12 rfl rfl)
theorem dX2_fits_15 : decode cX2_fits 15 = .ok (.iconst 1, 1) := dk_4 (dk_at dksX2_fits_0 15 rfl rfl)
theorem dX2_fits_16 : decode cX2_fits 16 = .ok (.goto 4, 3) := dk_167 0 4 (dk_at dksX2_fits_0 16 rfl rfl)
theorem dX2_fits_19 : decode cX2_fits 19 = .ok (.iconst 0, 1) := dk_3 (dk_at dksX2_fits_0 19 rfl rfl)
theorem dX2_fits_20 : decode cX2_fits 20 = .ok (.ireturn, 1) := dk_172 (dk_at dksX2_fits_0 20 rfl rfl)
/-- PackingDuel$State.fits(I)Z -/
def zb84 (G : zPg) (C : zO) (args : List Value) (Q : zQ) (Y : zY) (σ : zS) : Prop := ∃ (a0 : Nat) (x1 : Int32), args = [.ref a0, .int x1] ∧ (zrc σ (some a0) 1 (fun a4 => zcl C 83 [.ref a4] Y σ (zqR (fun v1 s2 => zrc s2 v1 14 (fun a11 => zcl C 453 [.ref a11, .int x1] Y s2 (zqI (fun v8 s9 => zgI s9 (some a0) 1 3 (fun v15 => zJ (fun (p21 : Int32) (s22 : zS) => zbool p21 ∧ Q (some (.int p21)) s22) (fun (j23 : Int32 → zS → Prop) => ((v15 < v8) → j23 (0 : Int32) s9) ∧ ((¬ v15 < v8) → j23 (1 : Int32) s9))))))))))
set_option maxHeartbeats 4000000 in
theorem wk84 {l : Launch} {g : zG} {d : Nat} {C : zO} (hG : zGk g) (hC : zSound l g d C) {args : List Value} {Q : zQ} {Y : zY} {σ : zS} (hw : zb84 (zpg g) C args Q Y σ) : zMet l g (d + 1) (⟨"PackingDuel$State", "fits", "(I)Z"⟩, Cond.code ⟨"PackingDuel$State", "fits", "(I)Z"⟩ prog_20_method_6_code 2 (Option.some FieldType.boolean)) args σ Q Y := by
  obtain ⟨a0, x1, rfl, hw⟩ := hw
  refine zof hG (by decide +kernel) [false, false] ⟨rfl, rfl, trivial⟩ (Nat.le_of_ble_eq_true rfl) (ls := [some (va_rf (some a0)), some (.int x1)]) rfl ?_
  intro X hX hR hTb hd1 hd2 hl hg hnm
  subst hl
  subst hg
  have hd : zDep X d := ⟨hd1, hd2⟩
  refine z_aload_n hX dX2_fits_0 rfl (i := 0) rfl ?_
  obtain ⟨a4, f5, r6, m7, hw⟩ := hw
  refine z_invV hX hd r6 (ci := 1) rfl rfl m7 dX2_fits_1 (hC 83 _ zm83 _ _ _ _ hw) q351 q352 q353 zh2 q354 q131 zn83 rfl (Nat.le_of_ble_eq_true rfl) (st := []) rfl (zcs8 (Nat.le_of_ble_eq_true rfl)) rfl (zkR (fun v1 s2 hw => ?_)) (zout hX hR hTb)
  refine z_iload_n hX dX2_fits_4 rfl (i := 1) rfl ?_
  obtain ⟨a11, f12, r13, m14, hw⟩ := hw
  refine z_invV hX hd r13 (ci := 14) rfl rfl m14 dX2_fits_5 (hC 453 _ zm453 _ _ _ _ hw) q403 q404 q405 zh30 q406 q161 zn453 rfl (Nat.le_of_ble_eq_true rfl) (st := []) rfl (zcs8 (Nat.le_of_ble_eq_true rfl)) rfl (zkI (fun v8 s9 hw => ?_)) (zout hX hR hTb)
  refine z_aload_n hX dX2_fits_8 rfl (i := 0) rfl ?_
  obtain ⟨a16, f17, v15, r18, m19, e20, hw⟩ := hw
  refine z_get hX zc1 (k := 3) dX2_fits_9 (Nat.le_of_ble_eq_true rfl) (zlk hX q235) r18 m19 e20 ?_
  refine zJ_w (P := fun (j : Int32 → zS → Prop) => ∀ (p21 : Int32) (s22 : zS), j p21 s22 → zW X s22 20 [none, none] [.int p21]) hw (fun p21 s22 hw => ?_) (fun j23 hj23 hw => ?_)
  · exact z_ireturn hX hR dX2_fits_20 (zn_z hw.1) hw.2
  · refine z_icmp_gt hX dX2_fits_12 (tgt := 19) rfl (fun c24 => ?_) (fun c24 => ?_)
    · have hw := hw.1 c24
      refine z_iconst hX (v := (0 : Int32)) dX2_fits_19 (by decide) ?_
      refine z_sub (ls' := [none, none]) (zsN (zsN (zs0))) ?_
      exact hj23 _ _ hw
    · have hw := hw.2 c24
      refine z_iconst hX (v := (1 : Int32)) dX2_fits_15 (by decide) ?_
      refine z_goto hX dX2_fits_16 (tgt := 20) rfl ?_
      refine z_sub (ls' := [none, none]) (zsN (zsN (zs0))) ?_
      exact hj23 _ _ hw
abbrev cX2_resultWith : ByteArray := prog_20_method_11_code
def yX2_resultWith : MethodName := ⟨RX2, "resultWith", "(II)I"⟩
def dkwX2_resultWith_1 : List UInt8 := [42, 182, 0, 80, 180, 0, 122, 6, 50, 42, 182, 0, 119, 27, 46, 46, 100, 172]
abbrev dktX2_resultWith_1 : List UInt8 := dkwX2_resultWith_1 ++ []
def dkwX2_resultWith_0 : List UInt8 := [42, 182, 0, 80, 180, 0, 122, 4, 50, 27, 46, 42, 27, 182, 0, 94, 28, 162, 0, 7, 3, 167, 0, 19]
abbrev dktX2_resultWith_0 : List UInt8 := dkwX2_resultWith_0 ++ dktX2_resultWith_1
theorem dksX2_resultWith_0 : cX2_resultWith.data.toList.drop 0 = dktX2_resultWith_0 := by decide +kernel
theorem dksX2_resultWith_1 : cX2_resultWith.data.toList.drop 24 = dktX2_resultWith_1 := dk_seg dksX2_resultWith_0 24 rfl rfl
theorem dX2_resultWith_0 : decode cX2_resultWith 0 = .ok (.aload_n 0, 1) := dk_42 (dk_at dksX2_resultWith_0 0 rfl rfl)
theorem dX2_resultWith_1 : decode cX2_resultWith 1 = .ok (.invokevirtual 80, 3) := dk_182 0 80 (dk_at dksX2_resultWith_0 1 rfl rfl)
theorem dX2_resultWith_4 : decode cX2_resultWith 4 = .ok (.getfield 122, 3) := dk_180 0 122 (dk_at dksX2_resultWith_0 4 rfl rfl)
theorem dX2_resultWith_7 : decode cX2_resultWith 7 = .ok (.iconst 1, 1) := dk_4 (dk_at dksX2_resultWith_0 7 rfl rfl)
theorem dX2_resultWith_8 : decode cX2_resultWith 8 = .ok (.aaload, 1) := dk_50 (dk_at dksX2_resultWith_0 8 rfl rfl)
theorem dX2_resultWith_9 : decode cX2_resultWith 9 = .ok (.iload_n 1, 1) := dk_27 (dk_at dksX2_resultWith_0 9 rfl rfl)
theorem dX2_resultWith_10 : decode cX2_resultWith 10 = .ok (.iaload, 1) := dk_46 (dk_at dksX2_resultWith_0 10 rfl rfl)
theorem dX2_resultWith_11 : decode cX2_resultWith 11 = .ok (.aload_n 0, 1) := dk_42 (dk_at dksX2_resultWith_0 11 rfl rfl)
theorem dX2_resultWith_12 : decode cX2_resultWith 12 = .ok (.iload_n 1, 1) := dk_27 (dk_at dksX2_resultWith_0 12 rfl rfl)
theorem dX2_resultWith_13 : decode cX2_resultWith 13 = .ok (.invokevirtual 94, 3) := dk_182 0 94 (dk_at dksX2_resultWith_0 13 rfl rfl)
theorem dX2_resultWith_16 : decode cX2_resultWith 16 = .ok (.iload_n 2, 1) := dk_28 (dk_at dksX2_resultWith_0 16 rfl rfl)
theorem dX2_resultWith_17 : decode cX2_resultWith 17 = .ok (.if_icmp .ge 7, 3) := dk_162 0 7 (dk_at dksX2_resultWith_0 17 rfl rfl)
theorem dX2_resultWith_20 : decode cX2_resultWith 20 = .ok (.iconst 0, 1) := dk_3 (dk_at dksX2_resultWith_0 20 rfl rfl)
theorem dX2_resultWith_21 : decode cX2_resultWith 21 = .ok (.goto 19, 3) := dk_167 0 19 (dk_at dksX2_resultWith_0 21 rfl rfl)
theorem dX2_resultWith_24 : decode cX2_resultWith 24 = .ok (.aload_n 0, 1) := dk_42 (dk_at dksX2_resultWith_1 0 rfl rfl)
theorem dX2_resultWith_25 : decode cX2_resultWith 25 = .ok (.invokevirtual 80, 3) := dk_182 0 80 (dk_at dksX2_resultWith_1 1 rfl rfl)
theorem dX2_resultWith_28 : decode cX2_resultWith 28 = .ok (.getfield 122, 3) := dk_180 0 122 (dk_at dksX2_resultWith_1 4 rfl rfl)
theorem dX2_resultWith_31 : decode cX2_resultWith 31 = .ok (.iconst 3, 1) := dk_6 (dk_at dksX2_resultWith_1 7 rfl rfl)
theorem dX2_resultWith_32 : decode cX2_resultWith 32 = .ok (.aaload, 1) := dk_50 (dk_at dksX2_resultWith_1 8 rfl rfl)
theorem dX2_resultWith_33 : decode cX2_resultWith 33 = .ok (.aload_n 0, 1) := dk_42 (dk_at dksX2_resultWith_1 9 rfl rfl)
theorem dX2_resultWith_34 : decode cX2_resultWith 34 = .ok (.invokevirtual 119, 3) := dk_182 0 119 (dk_at dksX2_resultWith_1 10 rfl rfl)
theorem dX2_resultWith_37 : decode cX2_resultWith 37 = .ok (.iload_n 1, 1) := dk_27 (dk_at dksX2_resultWith_1 13 rfl rfl)
theorem dX2_resultWith_38 : decode cX2_resultWith 38 = .ok (.iaload, 1) := dk_46 (dk_at dksX2_resultWith_1 14 rfl rfl)
theorem dX2_resultWith_39 : decode cX2_resultWith 39 = .ok (.iaload, 1) := dk_46 (dk_at dksX2_resultWith_1 15 rfl rfl)
theorem dX2_resultWith_40 : decode cX2_resultWith 40 = .ok (.isub, 1) := dk_100 (dk_at dksX2_resultWith_1 16 rfl rfl)
theorem dX2_resultWith_41 : decode cX2_resultWith 41 = .ok (.ireturn, 1) := dk_172 (dk_at dksX2_resultWith_1 17 rfl rfl)
/-- PackingDuel$State.resultWith(II)I -/
def zb85 (G : zPg) (C : zO) (args : List Value) (Q : zQ) (Y : zY) (σ : zS) : Prop := ∃ (a0 : Nat) (x1 : Int32) (x2 : Int32), args = [.ref a0, .int x1, .int x2] ∧ (zrc σ (some a0) 1 (fun a4 => zcl C 83 [.ref a4] Y σ (zqR (fun v1 s2 => zgR s2 v1 14 0 (fun v8 => zaR s2 5 v8 (1 : Int32) (fun v20 => zaI s2 0 v20 x1 (fun v28 => zrc s2 (some a0) 1 (fun a33 => zcl C 86 [.ref a33, .int x1] Y s2 (zqI (fun v30 s31 => zJ (fun (p37 : Int32) (s38 : zS) => Q (some (.int (v28 - p37))) s38) (fun (j39 : Int32 → zS → Prop) => ((x2 ≤ v30) → zrc s31 (some a0) 1 (fun a44 => zcl C 83 [.ref a44] Y s31 (zqR (fun v41 s42 => zgR s42 v41 14 0 (fun v48 => zaR s42 5 v48 (3 : Int32) (fun v60 => zrc s42 (some a0) 1 (fun a65 => zcl C 87 [.ref a65] Y s42 (zqR (fun v62 s63 => zaI s63 0 v62 x1 (fun v75 => zaI s63 0 v60 v75 (fun v83 => j39 v83 s63))))))))))) ∧ ((¬ x2 ≤ v30) → j39 (0 : Int32) s31))))))))))))
set_option maxHeartbeats 4000000 in
theorem wk85 {l : Launch} {g : zG} {d : Nat} {C : zO} (hG : zGk g) (hC : zSound l g d C) {args : List Value} {Q : zQ} {Y : zY} {σ : zS} (hw : zb85 (zpg g) C args Q Y σ) : zMet l g (d + 1) (⟨"PackingDuel$State", "resultWith", "(II)I"⟩, Cond.code ⟨"PackingDuel$State", "resultWith", "(II)I"⟩ prog_20_method_11_code 3 (Option.some FieldType.int)) args σ Q Y := by
  obtain ⟨a0, x1, x2, rfl, hw⟩ := hw
  refine zof hG (by decide +kernel) [false, false, false] ⟨rfl, rfl, rfl, trivial⟩ (Nat.le_of_ble_eq_true rfl) (ls := [some (va_rf (some a0)), some (.int x1), some (.int x2)]) rfl ?_
  intro X hX hR hTb hd1 hd2 hl hg hnm
  subst hl
  subst hg
  have hd : zDep X d := ⟨hd1, hd2⟩
  refine z_aload_n hX dX2_resultWith_0 rfl (i := 0) rfl ?_
  obtain ⟨a4, f5, r6, m7, hw⟩ := hw
  refine z_invV hX hd r6 (ci := 1) rfl rfl m7 dX2_resultWith_1 (hC 83 _ zm83 _ _ _ _ hw) q351 q352 q353 zh2 q354 q131 zn83 rfl (Nat.le_of_ble_eq_true rfl) (st := []) rfl (zcs8 (Nat.le_of_ble_eq_true rfl)) rfl (zkR (fun v1 s2 hw => ?_)) (zout hX hR hTb)
  obtain ⟨a9, f10, v8, r11, m12, e13, hw⟩ := hw
  refine z_get hX zc14 (k := 0) dX2_resultWith_4 (Nat.le_of_ble_eq_true rfl) (zlkN hX "PackingDuel" q389) r11 m12 e13 ?_
  refine z_iconst hX (v := (1 : Int32)) dX2_resultWith_7 (by decide) ?_
  obtain ⟨a14, n15, f16, r17, m18, i19, hw⟩ := hw
  refine z_aald hX 5 dX2_resultWith_8 rfl r17 m18 i19 ?_
  revert hw
  generalize f16 (Int32.toNatClampNeg (1 : Int32)) = v20
  intro hw
  refine z_iload_n hX dX2_resultWith_9 rfl (i := 1) rfl ?_
  obtain ⟨a22, n23, f24, r25, m26, i27, hw⟩ := hw
  refine z_iald hX dX2_resultWith_10 r25 m26 i27 ?_
  revert hw
  generalize f24 (Int32.toNatClampNeg x1) = v28
  intro hw
  refine z_aload_n hX dX2_resultWith_11 rfl (i := 0) rfl ?_
  refine z_iload_n hX dX2_resultWith_12 rfl (i := 1) rfl ?_
  obtain ⟨a33, f34, r35, m36, hw⟩ := hw
  refine z_invV hX hd r35 (ci := 1) rfl rfl m36 dX2_resultWith_13 (hC 86 _ zm86 _ _ _ _ hw) q411 q412 q413 zh2 q414 q131 zn86 rfl (Nat.le_of_ble_eq_true rfl) (st := [.int v28]) rfl (zcs8 (Nat.le_of_ble_eq_true rfl)) rfl (zkI (fun v30 s31 hw => ?_)) (zout hX hR hTb)
  refine z_iload_n hX dX2_resultWith_16 rfl (i := 2) rfl ?_
  refine zJ_w (P := fun (j : Int32 → zS → Prop) => ∀ (p37 : Int32) (s38 : zS), j p37 s38 → zW X s38 40 [none, none, none] [.int p37, .int v28]) hw (fun p37 s38 hw => ?_) (fun j39 hj39 hw => ?_)
  · refine z_isub hX dX2_resultWith_40 ?_
    exact z_ireturn hX hR dX2_resultWith_41 rfl hw
  · refine z_icmp_ge hX dX2_resultWith_17 (tgt := 24) rfl (fun c40 => ?_) (fun c40 => ?_)
    · have hw := hw.1 c40
      refine z_aload_n hX dX2_resultWith_24 rfl (i := 0) rfl ?_
      obtain ⟨a44, f45, r46, m47, hw⟩ := hw
      refine z_invV hX hd r46 (ci := 1) rfl rfl m47 dX2_resultWith_25 (hC 83 _ zm83 _ _ _ _ hw) q351 q352 q353 zh2 q354 q131 zn83 rfl (Nat.le_of_ble_eq_true rfl) (st := [.int v28]) rfl (zcs8 (Nat.le_of_ble_eq_true rfl)) rfl (zkR (fun v41 s42 hw => ?_)) (zout hX hR hTb)
      obtain ⟨a49, f50, v48, r51, m52, e53, hw⟩ := hw
      refine z_get hX zc14 (k := 0) dX2_resultWith_28 (Nat.le_of_ble_eq_true rfl) (zlkN hX "PackingDuel" q389) r51 m52 e53 ?_
      refine z_iconst hX (v := (3 : Int32)) dX2_resultWith_31 (by decide) ?_
      obtain ⟨a54, n55, f56, r57, m58, i59, hw⟩ := hw
      refine z_aald hX 5 dX2_resultWith_32 rfl r57 m58 i59 ?_
      revert hw
      generalize f56 (Int32.toNatClampNeg (3 : Int32)) = v60
      intro hw
      refine z_aload_n hX dX2_resultWith_33 rfl (i := 0) rfl ?_
      obtain ⟨a65, f66, r67, m68, hw⟩ := hw
      refine z_invV hX hd r67 (ci := 1) rfl rfl m68 dX2_resultWith_34 (hC 87 _ zm87 _ _ _ _ hw) q415 q417 qs1 zh2 q418 q131 zn87 rfl (Nat.le_of_ble_eq_true rfl) (st := [va_rf v60, .int v28]) rfl (zcs8 (Nat.le_of_ble_eq_true rfl)) rfl (zkR (fun v62 s63 hw => ?_)) (zout hX hR hTb)
      refine z_iload_n hX dX2_resultWith_37 rfl (i := 1) rfl ?_
      obtain ⟨a69, n70, f71, r72, m73, i74, hw⟩ := hw
      refine z_iald hX dX2_resultWith_38 r72 m73 i74 ?_
      revert hw
      generalize f71 (Int32.toNatClampNeg x1) = v75
      intro hw
      obtain ⟨a77, n78, f79, r80, m81, i82, hw⟩ := hw
      refine z_iald hX dX2_resultWith_39 r80 m81 i82 ?_
      revert hw
      generalize f79 (Int32.toNatClampNeg v75) = v83
      intro hw
      refine z_sub (ls' := [none, none, none]) (zsN (zsN (zsN (zs0)))) ?_
      exact hj39 _ _ hw
    · have hw := hw.2 c40
      refine z_iconst hX (v := (0 : Int32)) dX2_resultWith_20 (by decide) ?_
      refine z_goto hX dX2_resultWith_21 (tgt := 40) rfl ?_
      refine z_sub (ls' := [none, none, none]) (zsN (zsN (zsN (zs0)))) ?_
      exact hj39 _ _ hw
