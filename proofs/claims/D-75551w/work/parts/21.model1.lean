set_option maxRecDepth 100000
abbrev cX3_layWeights : ByteArray := prog_28_method_38_code
def yX3_layWeights : MethodName := ⟨RX3, "layWeights", "(Z[J)J"⟩
def dkwX3_layWeights_6 : List UInt8 := [33, 44, 21, 5, 47, 97, 66, 132, 5, 1, 167, 255, 114, 33, 173]
abbrev dktX3_layWeights_6 : List UInt8 := dkwX3_layWeights_6 ++ []
def dkwX3_layWeights_5 : List UInt8 := [182, 0, 182, 55, 6, 44, 21, 5, 21, 5, 5, 112, 154, 0, 8, 22, 6, 167, 0, 6, 22, 6, 117, 80]
abbrev dktX3_layWeights_5 : List UInt8 := dkwX3_layWeights_5 ++ dktX3_layWeights_6
def dkwX3_layWeights_4 : List UInt8 := [132, 7, 1, 132, 8, 1, 167, 255, 191, 132, 6, 1, 167, 255, 170, 42, 42, 180, 0, 186, 4, 100]
abbrev dktX3_layWeights_4 : List UInt8 := dkwX3_layWeights_4 ++ dktX3_layWeights_5
def dkwX3_layWeights_3 : List UInt8 := [184, 0, 174, 42, 27, 21, 8, 21, 6, 182, 0, 194, 42, 27, 21, 8, 3, 182, 0, 194, 100, 133, 80]
abbrev dktX3_layWeights_3 : List UInt8 := dkwX3_layWeights_3 ++ dktX3_layWeights_4
def dkwX3_layWeights_2 : List UInt8 := [159, 0, 49, 42, 180, 0, 46, 4, 42, 180, 0, 186, 4, 100, 184, 0, 189, 21, 6, 4, 100, 21, 7]
abbrev dktX3_layWeights_2 : List UInt8 := dkwX3_layWeights_2 ++ dktX3_layWeights_3
def dkwX3_layWeights_1 : List UInt8 := [162, 0, 83, 3, 54, 7, 3, 54, 8, 21, 8, 42, 180, 0, 186, 162, 0, 62, 21, 8, 21, 5]
abbrev dktX3_layWeights_1 : List UInt8 := dkwX3_layWeights_1 ++ dktX3_layWeights_2
def dkwX3_layWeights_0 : List UInt8 := [9, 66, 3, 54, 5, 21, 5, 42, 180, 0, 186, 162, 0, 139, 4, 54, 6, 21, 6, 42, 180, 0, 186]
abbrev dktX3_layWeights_0 : List UInt8 := dkwX3_layWeights_0 ++ dktX3_layWeights_1
theorem dksX3_layWeights_0 : cX3_layWeights.data.toList.drop 0 = dktX3_layWeights_0 := by decide +kernel
theorem dksX3_layWeights_1 : cX3_layWeights.data.toList.drop 23 = dktX3_layWeights_1 := dk_seg dksX3_layWeights_0 23 rfl rfl
theorem dksX3_layWeights_2 : cX3_layWeights.data.toList.drop 45 = dktX3_layWeights_2 := dk_seg dksX3_layWeights_1 22 rfl rfl
theorem dksX3_layWeights_3 : cX3_layWeights.data.toList.drop 68 = dktX3_layWeights_3 := dk_seg dksX3_layWeights_2 23 rfl rfl
theorem dksX3_layWeights_4 : cX3_layWeights.data.toList.drop 91 = dktX3_layWeights_4 := dk_seg dksX3_layWeights_3 23 rfl rfl
theorem dksX3_layWeights_5 : cX3_layWeights.data.toList.drop 113 = dktX3_layWeights_5 := dk_seg dksX3_layWeights_4 22 rfl rfl
theorem dksX3_layWeights_6 : cX3_layWeights.data.toList.drop 137 = dktX3_layWeights_6 := dk_seg dksX3_layWeights_5 24 rfl rfl
theorem dX3_layWeights_0 : decode cX3_layWeights 0 = .ok (.lconst 0, 1) := dk_9 (dk_at dksX3_layWeights_0 0 rfl rfl)
theorem dX3_layWeights_1 : decode cX3_layWeights 1 = .ok (.lstore_n 3, 1) := dk_66 (dk_at dksX3_layWeights_0 1 rfl rfl)
theorem dX3_layWeights_2 : decode cX3_layWeights 2 = .ok (.iconst 0, 1) := dk_3 (dk_at dksX3_layWeights_0 2 rfl rfl)
theorem dX3_layWeights_3 : decode cX3_layWeights 3 = .ok (.istore 5, 2) := dk_54 5 (dk_at dksX3_layWeights_0 3 rfl rfl)
theorem dX3_layWeights_5 : decode cX3_layWeights 5 = .ok (.iload 5, 2) := dk_21 5 (dk_at dksX3_layWeights_0 5 rfl rfl)
theorem dX3_layWeights_7 : decode cX3_layWeights 7 = .ok (.aload_n 0, 1) := dk_42 (dk_at dksX3_layWeights_0 7 rfl rfl)
theorem dX3_layWeights_8 : decode cX3_layWeights 8 = .ok (.getfield 186, 3) := dk_180 0 186 (dk_at dksX3_layWeights_0 8 rfl rfl)
theorem dX3_layWeights_11 : decode cX3_layWeights 11 = .ok (.if_icmp .ge 139, 3) := dk_162 0 139 (dk_at dksX3_layWeights_0 11 rfl rfl)
theorem dX3_layWeights_14 : decode cX3_layWeights 14 = .ok (.iconst 1, 1) := dk_4 (dk_at dksX3_layWeights_0 14 rfl rfl)
theorem dX3_layWeights_15 : decode cX3_layWeights 15 = .ok (.istore 6, 2) := dk_54 6 (dk_at dksX3_layWeights_0 15 rfl rfl)
theorem dX3_layWeights_17 : decode cX3_layWeights 17 = .ok (.iload 6, 2) := dk_21 6 (dk_at dksX3_layWeights_0 17 rfl rfl)
theorem dX3_layWeights_19 : decode cX3_layWeights 19 = .ok (.aload_n 0, 1) := dk_42 (dk_at dksX3_layWeights_0 19 rfl rfl)
theorem dX3_layWeights_20 : decode cX3_layWeights 20 = .ok (.getfield 186, 3) := dk_180 0 186 (dk_at dksX3_layWeights_0 20 rfl rfl)
theorem dX3_layWeights_23 : decode cX3_layWeights 23 = .ok (.if_icmp .ge 83, 3) := dk_162 0 83 (dk_at dksX3_layWeights_1 0 rfl rfl)
theorem dX3_layWeights_26 : decode cX3_layWeights 26 = .ok (.iconst 0, 1) := dk_3 (dk_at dksX3_layWeights_1 3 rfl rfl)
theorem dX3_layWeights_27 : decode cX3_layWeights 27 = .ok (.istore 7, 2) := dk_54 7 (dk_at dksX3_layWeights_1 4 rfl rfl)
theorem dX3_layWeights_29 : decode cX3_layWeights 29 = .ok (.iconst 0, 1) := dk_3 (dk_at dksX3_layWeights_1 6 rfl rfl)
theorem dX3_layWeights_30 : decode cX3_layWeights 30 = .ok (.istore 8, 2) := dk_54 8 (dk_at dksX3_layWeights_1 7 rfl rfl)
theorem dX3_layWeights_32 : decode cX3_layWeights 32 = .ok (.iload 8, 2) := dk_21 8 (dk_at dksX3_layWeights_1 9 rfl rfl)
theorem dX3_layWeights_34 : decode cX3_layWeights 34 = .ok (.aload_n 0, 1) := dk_42 (dk_at dksX3_layWeights_1 11 rfl rfl)
theorem dX3_layWeights_35 : decode cX3_layWeights 35 = .ok (.getfield 186, 3) := dk_180 0 186 (dk_at dksX3_layWeights_1 12 rfl rfl)
theorem dX3_layWeights_38 : decode cX3_layWeights 38 = .ok (.if_icmp .ge 62, 3) := dk_162 0 62 (dk_at dksX3_layWeights_1 15 rfl rfl)
theorem dX3_layWeights_41 : decode cX3_layWeights 41 = .ok (.iload 8, 2) := dk_21 8 (dk_at dksX3_layWeights_1 18 rfl rfl)
theorem dX3_layWeights_43 : decode cX3_layWeights 43 = .ok (.iload 5, 2) := dk_21 5 (dk_at dksX3_layWeights_1 20 rfl rfl)
theorem dX3_layWeights_45 : decode cX3_layWeights 45 = .ok (.if_icmp .eq 49, 3) := dk_159 0 49 (dk_at dksX3_layWeights_2 0 rfl rfl)
theorem dX3_layWeights_48 : decode cX3_layWeights 48 = .ok (.aload_n 0, 1) := dk_42 (dk_at dksX3_layWeights_2 3 rfl rfl)
theorem dX3_layWeights_49 : decode cX3_layWeights 49 = .ok (.getfield 46, 3) := dk_180 0 46 (dk_at dksX3_layWeights_2 4 rfl rfl)
theorem dX3_layWeights_52 : decode cX3_layWeights 52 = .ok (.iconst 1, 1) := dk_4 (dk_at dksX3_layWeights_2 7 rfl rfl)
theorem dX3_layWeights_53 : decode cX3_layWeights 53 = .ok (.aload_n 0, 1) := dk_42 (dk_at dksX3_layWeights_2 8 rfl rfl)
theorem dX3_layWeights_54 : decode cX3_layWeights 54 = .ok (.getfield 186, 3) := dk_180 0 186 (dk_at dksX3_layWeights_2 9 rfl rfl)
theorem dX3_layWeights_57 : decode cX3_layWeights 57 = .ok (.iconst 1, 1) := dk_4 (dk_at dksX3_layWeights_2 12 rfl rfl)
theorem dX3_layWeights_58 : decode cX3_layWeights 58 = .ok (.isub, 1) := dk_100 (dk_at dksX3_layWeights_2 13 rfl rfl)
theorem dX3_layWeights_59 : decode cX3_layWeights 59 = .ok (.invokestatic 189, 3) := dk_184 0 189 (dk_at dksX3_layWeights_2 14 rfl rfl)
theorem dX3_layWeights_62 : decode cX3_layWeights 62 = .ok (.iload 6, 2) := dk_21 6 (dk_at dksX3_layWeights_2 17 rfl rfl)
theorem dX3_layWeights_64 : decode cX3_layWeights 64 = .ok (.iconst 1, 1) := dk_4 (dk_at dksX3_layWeights_2 19 rfl rfl)
theorem dX3_layWeights_65 : decode cX3_layWeights 65 = .ok (.isub, 1) := dk_100 (dk_at dksX3_layWeights_2 20 rfl rfl)
theorem dX3_layWeights_66 : decode cX3_layWeights 66 = .ok (.iload 7, 2) := dk_21 7 (dk_at dksX3_layWeights_2 21 rfl rfl)
theorem dX3_layWeights_68 : decode cX3_layWeights 68 = .ok (.invokestatic 174, 3) := dk_184 0 174 (dk_at dksX3_layWeights_3 0 rfl rfl)
theorem dX3_layWeights_71 : decode cX3_layWeights 71 = .ok (.aload_n 0, 1) := dk_42 (dk_at dksX3_layWeights_3 3 rfl rfl)
theorem dX3_layWeights_72 : decode cX3_layWeights 72 = .ok (.iload_n 1, 1) := dk_27 (dk_at dksX3_layWeights_3 4 rfl rfl)
theorem dX3_layWeights_73 : decode cX3_layWeights 73 = .ok (.iload 8, 2) := dk_21 8 (dk_at dksX3_layWeights_3 5 rfl rfl)
theorem dX3_layWeights_75 : decode cX3_layWeights 75 = .ok (.iload 6, 2) := dk_21 6 (dk_at dksX3_layWeights_3 7 rfl rfl)
theorem dX3_layWeights_77 : decode cX3_layWeights 77 = .ok (.invokevirtual 194, 3) := dk_182 0 194 (dk_at dksX3_layWeights_3 9 rfl rfl)
theorem dX3_layWeights_80 : decode cX3_layWeights 80 = .ok (.aload_n 0, 1) := dk_42 (dk_at dksX3_layWeights_3 12 rfl rfl)
theorem dX3_layWeights_81 : decode cX3_layWeights 81 = .ok (.iload_n 1, 1) := dk_27 (dk_at dksX3_layWeights_3 13 rfl rfl)
theorem dX3_layWeights_82 : decode cX3_layWeights 82 = .ok (.iload 8, 2) := dk_21 8 (dk_at dksX3_layWeights_3 14 rfl rfl)
theorem dX3_layWeights_84 : decode cX3_layWeights 84 = .ok (.iconst 0, 1) := dk_3 (dk_at dksX3_layWeights_3 16 rfl rfl)
theorem dX3_layWeights_85 : decode cX3_layWeights 85 = .ok (.invokevirtual 194, 3) := dk_182 0 194 (dk_at dksX3_layWeights_3 17 rfl rfl)
theorem dX3_layWeights_88 : decode cX3_layWeights 88 = .ok (.isub, 1) := dk_100 (dk_at dksX3_layWeights_3 20 rfl rfl)
theorem dX3_layWeights_89 : decode cX3_layWeights 89 = .ok (.i2l, 1) := dk_133 (dk_at dksX3_layWeights_3 21 rfl rfl)
theorem dX3_layWeights_90 : decode cX3_layWeights 90 = .ok (.lastore, 1) := dk_80 (dk_at dksX3_layWeights_3 22 rfl rfl)
theorem dX3_layWeights_91 : decode cX3_layWeights 91 = .ok (.iinc 7 1, 3) := dk_132 7 1 (dk_at dksX3_layWeights_4 0 rfl rfl)
theorem dX3_layWeights_94 : decode cX3_layWeights 94 = .ok (.iinc 8 1, 3) := dk_132 8 1 (dk_at dksX3_layWeights_4 3 rfl rfl)
theorem dX3_layWeights_97 : decode cX3_layWeights 97 = .ok (.goto (-65), 3) := dk_167 255 191 (dk_at dksX3_layWeights_4 6 rfl rfl)
theorem dX3_layWeights_100 : decode cX3_layWeights 100 = .ok (.iinc 6 1, 3) := dk_132 6 1 (dk_at dksX3_layWeights_4 9 rfl rfl)
theorem dX3_layWeights_103 : decode cX3_layWeights 103 = .ok (.goto (-86), 3) := dk_167 255 170 (dk_at dksX3_layWeights_4 12 rfl rfl)
theorem dX3_layWeights_106 : decode cX3_layWeights 106 = .ok (.aload_n 0, 1) := dk_42 (dk_at dksX3_layWeights_4 15 rfl rfl)
theorem dX3_layWeights_107 : decode cX3_layWeights 107 = .ok (.aload_n 0, 1) := dk_42 (dk_at dksX3_layWeights_4 16 rfl rfl)
theorem dX3_layWeights_108 : decode cX3_layWeights 108 = .ok (.getfield 186, 3) := dk_180 0 186 (dk_at dksX3_layWeights_4 17 rfl rfl)
theorem dX3_layWeights_111 : decode cX3_layWeights 111 = .ok (.iconst 1, 1) := dk_4 (dk_at dksX3_layWeights_4 20 rfl rfl)
theorem dX3_layWeights_112 : decode cX3_layWeights 112 = .ok (.isub, 1) := dk_100 (dk_at dksX3_layWeights_4 21 rfl rfl)
theorem dX3_layWeights_113 : decode cX3_layWeights 113 = .ok (.invokevirtual 182, 3) := dk_182 0 182 (dk_at dksX3_layWeights_5 0 rfl rfl)
theorem dX3_layWeights_116 : decode cX3_layWeights 116 = .ok (.lstore 6, 2) := dk_55 6 (dk_at dksX3_layWeights_5 3 rfl rfl)
theorem dX3_layWeights_118 : decode cX3_layWeights 118 = .ok (.aload_n 2, 1) := dk_44 (dk_at dksX3_layWeights_5 5 rfl rfl)
theorem dX3_layWeights_119 : decode cX3_layWeights 119 = .ok (.iload 5, 2) := dk_21 5 (dk_at dksX3_layWeights_5 6 rfl rfl)
theorem dX3_layWeights_121 : decode cX3_layWeights 121 = .ok (.iload 5, 2) := dk_21 5 (dk_at dksX3_layWeights_5 8 rfl rfl)
theorem dX3_layWeights_123 : decode cX3_layWeights 123 = .ok (.iconst 2, 1) := dk_5 (dk_at dksX3_layWeights_5 10 rfl rfl)
theorem dX3_layWeights_124 : decode cX3_layWeights 124 = .ok (.irem, 1) := dk_112 (dk_at dksX3_layWeights_5 11 rfl rfl)
theorem dX3_layWeights_125 : decode cX3_layWeights 125 = .ok (.ifCond .ne 8, 3) := dk_154 0 8 (dk_at dksX3_layWeights_5 12 rfl rfl)
theorem dX3_layWeights_128 : decode cX3_layWeights 128 = .ok (.lload 6, 2) := dk_22 6 (dk_at dksX3_layWeights_5 15 rfl rfl)
theorem dX3_layWeights_130 : decode cX3_layWeights 130 = .ok (.goto 6, 3) := dk_167 0 6 (dk_at dksX3_layWeights_5 17 rfl rfl)
theorem dX3_layWeights_133 : decode cX3_layWeights 133 = .ok (.lload 6, 2) := dk_22 6 (dk_at dksX3_layWeights_5 20 rfl rfl)
theorem dX3_layWeights_135 : decode cX3_layWeights 135 = .ok (.lneg, 1) := dk_117 (dk_at dksX3_layWeights_5 22 rfl rfl)
theorem dX3_layWeights_136 : decode cX3_layWeights 136 = .ok (.lastore, 1) := dk_80 (dk_at dksX3_layWeights_5 23 rfl rfl)
theorem dX3_layWeights_137 : decode cX3_layWeights 137 = .ok (.lload_n 3, 1) := dk_33 (dk_at dksX3_layWeights_6 0 rfl rfl)
theorem dX3_layWeights_138 : decode cX3_layWeights 138 = .ok (.aload_n 2, 1) := dk_44 (dk_at dksX3_layWeights_6 1 rfl rfl)
theorem dX3_layWeights_139 : decode cX3_layWeights 139 = .ok (.iload 5, 2) := dk_21 5 (dk_at dksX3_layWeights_6 2 rfl rfl)
theorem dX3_layWeights_141 : decode cX3_layWeights 141 = .ok (.laload, 1) := dk_47 (dk_at dksX3_layWeights_6 4 rfl rfl)
theorem dX3_layWeights_142 : decode cX3_layWeights 142 = .ok (.ladd, 1) := dk_97 (dk_at dksX3_layWeights_6 5 rfl rfl)
theorem dX3_layWeights_143 : decode cX3_layWeights 143 = .ok (.lstore_n 3, 1) := dk_66 (dk_at dksX3_layWeights_6 6 rfl rfl)
theorem dX3_layWeights_144 : decode cX3_layWeights 144 = .ok (.iinc 5 1, 3) := dk_132 5 1 (dk_at dksX3_layWeights_6 7 rfl rfl)
theorem dX3_layWeights_147 : decode cX3_layWeights 147 = .ok (.goto (-142), 3) := dk_167 255 114 (dk_at dksX3_layWeights_6 10 rfl rfl)
theorem dX3_layWeights_150 : decode cX3_layWeights 150 = .ok (.lload_n 3, 1) := dk_33 (dk_at dksX3_layWeights_6 13 rfl rfl)
theorem dX3_layWeights_151 : decode cX3_layWeights 151 = .ok (.lreturn, 1) := dk_173 (dk_at dksX3_layWeights_6 14 rfl rfl)
/-- PackingDuelModel.layWeights(Z[J)J -/
def zb202 (G : zPg) (C : zO) (args : List Value) (Q : zQ) (Y : zY) (σ : zS) : Prop := ∃ (a0 : Nat) (x1 : Int32) (x2 : Option Nat), args = [.ref a0, .int x1, va_rf x2] ∧ (∃ n, zIt (fun _ _ _ => False) (fun rec4 (p1 : Int64) (p2 : Int32) (s3 : zS) => zgI s3 (some a0) 4 15 (fun v5 => ((v5 ≤ p2) → Q (some (.long p1)) s3) ∧ ((¬ v5 ≤ p2) → ∃ n, zIt (fun _ _ => False) (fun rec14 (p12 : Int32) (s13 : zS) => zgI s13 (some a0) 4 15 (fun v15 => ((v15 ≤ p12) → zgI s13 (some a0) 4 15 (fun v22 => zrc s13 (some a0) 4 (fun a31 => zcl C 205 [.ref a31, .int (v22 - (1 : Int32))] Y s13 (zqL (fun v28 s29 => (¬ (2 : Int32) = 0 ∧ zJ (fun (p35 : Int64) (s36 : zS) => zsL s36 G.1 x2 p2 p35 (fun s45 => zaL s45 x2 p2 (fun v53 => (∀ v55 : Int32, v55 = p2 + (1 : Int32) → rec4 (p1 + v53) v55 s45)))) (fun (j37 : Int64 → zS → Prop) => ((¬ (p2 - p2 / (2 : Int32) * (2 : Int32)) = 0) → j37 (-v28) s29) ∧ (((p2 - p2 / (2 : Int32) * (2 : Int32)) = 0) → j37 v28 s29)))))))) ∧ ((¬ v15 ≤ p12) → ∃ n, zIt (fun _ _ _ => False) (fun rec61 (p58 : Int32) (p59 : Int32) (s60 : zS) => zgI s60 (some a0) 4 15 (fun v62 => ((v62 ≤ p59) → (∀ v69 : Int32, v69 = p12 + (1 : Int32) → rec14 v69 s60)) ∧ ((¬ v62 ≤ p59) → zJ (fun (p71 : Int32) (s72 : zS) => (∀ v74 : Int32, v74 = p59 + (1 : Int32) → rec61 p71 v74 s72)) (fun (j73 : Int32 → zS → Prop) => ((p59 = p2) → j73 p58 s60) ∧ ((¬ p59 = p2) → zgR s60 (some a0) 4 16 (fun v77 => zgI s60 (some a0) 4 15 (fun v83 => zcl C 297 [.int (1 : Int32), .int (v83 - (1 : Int32))] Y s60 (zqI (fun v89 s90 => zcl C 203 [.int v89, .int (p12 - (1 : Int32)), .int p58] Y s90 (zqI (fun v92 s93 => zrc s93 (some a0) 4 (fun a98 => zcl C 204 [.ref a98, .int x1, .int p59, .int p12] Y s93 (zqI (fun v95 s96 => zrc s96 (some a0) 4 (fun a105 => zcl C 204 [.ref a105, .int x1, .int p59, .int (0 : Int32)] Y s96 (zqI (fun v102 s103 => zsL s103 G.1 v77 v92 ((v95 - v102).toInt64) (fun s116 => (∀ v118 : Int32, v118 = p58 + (1 : Int32) → j73 v118 s116))))))))))))))))))) n (0 : Int32) (0 : Int32) s13))) n (1 : Int32) s3))) n (0 : Int64) (0 : Int32) σ)
set_option maxHeartbeats 4000000 in
theorem wk202 {l : Launch} {g : zG} {d : Nat} {C : zO} (hG : zGk g) (hC : zSound l g d C) {args : List Value} {Q : zQ} {Y : zY} {σ : zS} (hw : zb202 (zpg g) C args Q Y σ) : zMet l g (d + 1) (⟨"PackingDuelModel", "layWeights", "(Z[J)J"⟩, Cond.code ⟨"PackingDuelModel", "layWeights", "(Z[J)J"⟩ prog_28_method_38_code 9 (Option.some FieldType.long)) args σ Q Y := by
  obtain ⟨a0, x1, x2, rfl, hw⟩ := hw
  refine zof hG (by decide +kernel) [false, false, false] ⟨rfl, rfl, (zc_rf _), trivial⟩ (Nat.le_of_ble_eq_true rfl) (ls := [some (va_rf (some a0)), some (.int x1), some (va_rf x2), none, none, none, none, none, none]) rfl ?_
  intro X hX hR hTb hd1 hd2 hl hg hnm
  subst hl
  subst hg
  have hd : zDep X d := ⟨hd1, hd2⟩
  refine z_lconst hX (v := (0 : Int64)) dX3_layWeights_0 (by decide) ?_
  refine z_lstore_n hX dX3_layWeights_1 rfl (i := 3) (Nat.le_of_ble_eq_true rfl) (zc_rf _) (ls2 := [some (va_rf (some a0)), some (.int x1), some (va_rf x2), some (.long (0 : Int64)), none, none, none, none, none]) rfl ?_
  refine z_iconst hX (v := (0 : Int32)) dX3_layWeights_2 (by decide) ?_
  refine z_istore hX dX3_layWeights_3 (i := 5) (Nat.le_of_ble_eq_true rfl) trivial (ls2 := [some (va_rf (some a0)), some (.int x1), some (va_rf x2), some (.long (0 : Int64)), none, some (.int (0 : Int32)), none, none, none]) rfl ?_
  obtain ⟨n122, hw⟩ := hw
  refine zIt_w (P := fun (j : Int64 → Int32 → zS → Prop) => ∀ (p1 : Int64) (p2 : Int32) (s3 : zS), j p1 p2 s3 → zW X s3 5 [some (va_rf (some a0)), some (.int x1), some (va_rf x2), some (.long p1), none, some (.int p2), none, none, none] []) (fun _ _ _ h => h.elim) (fun rec4 hrec4 p1 p2 s3 hw => ?_) n122 _ _ _ hw
  refine z_iload hX dX3_layWeights_5 (i := 5) rfl ?_
  refine z_aload_n hX dX3_layWeights_7 rfl (i := 0) rfl ?_
  obtain ⟨a6, f7, v5, r8, m9, e10, hw⟩ := hw
  refine z_get hX zc4 (k := 15) dX3_layWeights_8 (Nat.le_of_ble_eq_true rfl) (zlk hX q2484) r8 m9 e10 ?_
  refine z_icmp_ge hX dX3_layWeights_11 (tgt := 150) rfl (fun c11 => ?_) (fun c11 => ?_)
  · have hw := hw.1 c11
    refine z_lload_n hX dX3_layWeights_150 rfl (i := 3) rfl ?_
    exact z_lreturn hX hR dX3_layWeights_151 hw
  · have hw := hw.2 c11
    refine z_iconst hX (v := (1 : Int32)) dX3_layWeights_14 (by decide) ?_
    refine z_istore hX dX3_layWeights_15 (i := 6) (Nat.le_of_ble_eq_true rfl) rfl (ls2 := [some (va_rf (some a0)), some (.int x1), some (va_rf x2), some (.long p1), none, some (.int p2), some (.int (1 : Int32)), none, none]) rfl ?_
    obtain ⟨n121, hw⟩ := hw
    refine zIt_w (P := fun (j : Int32 → zS → Prop) => ∀ (p12 : Int32) (s13 : zS), j p12 s13 → zW X s13 17 [some (va_rf (some a0)), some (.int x1), some (va_rf x2), some (.long p1), none, some (.int p2), some (.int p12), none, none] []) (fun _ _ h => h.elim) (fun rec14 hrec14 p12 s13 hw => ?_) n121 _ _ hw
    refine z_iload hX dX3_layWeights_17 (i := 6) rfl ?_
    refine z_aload_n hX dX3_layWeights_19 rfl (i := 0) rfl ?_
    obtain ⟨a16, f17, v15, r18, m19, e20, hw⟩ := hw
    refine z_get hX zc4 (k := 15) dX3_layWeights_20 (Nat.le_of_ble_eq_true rfl) (zlk hX q2484) r18 m19 e20 ?_
    refine z_icmp_ge hX dX3_layWeights_23 (tgt := 106) rfl (fun c21 => ?_) (fun c21 => ?_)
    · have hw := hw.1 c21
      refine z_aload_n hX dX3_layWeights_106 rfl (i := 0) rfl ?_
      refine z_aload_n hX dX3_layWeights_107 rfl (i := 0) rfl ?_
      obtain ⟨a23, f24, v22, r25, m26, e27, hw⟩ := hw
      refine z_get hX zc4 (k := 15) dX3_layWeights_108 (Nat.le_of_ble_eq_true rfl) (zlk hX q2484) r25 m26 e27 ?_
      refine z_iconst hX (v := (1 : Int32)) dX3_layWeights_111 (by decide) ?_
      refine z_isub hX dX3_layWeights_112 ?_
      obtain ⟨a31, f32, r33, m34, hw⟩ := hw
      refine z_invV hX hd r33 (ci := 4) rfl rfl m34 dX3_layWeights_113 (hC 205 _ zm205 _ _ _ _ hw) q2785 q2787 qs75 zh7 q2788 q136 zn205 rfl (Nat.le_of_ble_eq_true rfl) (st := []) rfl (zcs8 (Nat.le_of_ble_eq_true rfl)) rfl (zkL (fun v28 s29 hw => ?_)) (zout hX hR hTb)
      refine z_lstore hX dX3_layWeights_116 (i := 6) (Nat.le_of_ble_eq_true rfl) rfl (ls2 := [some (va_rf (some a0)), some (.int x1), some (va_rf x2), some (.long p1), none, some (.int p2), some (.long v28), none, none]) rfl ?_
      refine z_aload_n hX dX3_layWeights_118 rfl (i := 2) rfl ?_
      refine z_iload hX dX3_layWeights_119 (i := 5) rfl ?_
      refine z_iload hX dX3_layWeights_121 (i := 5) rfl ?_
      refine z_iconst hX (v := (2 : Int32)) dX3_layWeights_123 (by decide) ?_
      refine z_irem hX dX3_layWeights_124 hw.1 ?_
      have hw := hw.2
      refine zJ_w (P := fun (j : Int64 → zS → Prop) => ∀ (p35 : Int64) (s36 : zS), j p35 s36 → zW X s36 136 [some (va_rf (some a0)), some (.int x1), some (va_rf x2), some (.long p1), none, some (.int p2), none, none, none] [.long p35, .int p2, va_rf x2]) hw (fun p35 s36 hw => ?_) (fun j37 hj37 hw => ?_)
      · obtain ⟨a38, n39, f40, r41, g42, m43, i44, hw⟩ := hw
        refine z_last hX dX3_layWeights_136 r41 g42 m43 i44 (z_nm (fun s45 e46 => ?_))
        have hw := hw s45 e46
        refine z_lload_n hX dX3_layWeights_137 rfl (i := 3) rfl ?_
        refine z_aload_n hX dX3_layWeights_138 rfl (i := 2) rfl ?_
        refine z_iload hX dX3_layWeights_139 (i := 5) rfl ?_
        obtain ⟨a47, n48, f49, r50, m51, i52, hw⟩ := hw
        refine z_lald hX dX3_layWeights_141 r50 m51 i52 ?_
        revert hw
        generalize f49 (Int32.toNatClampNeg p2) = v53
        intro hw
        refine z_ladd hX dX3_layWeights_142 ?_
        refine z_lstore_n hX dX3_layWeights_143 rfl (i := 3) (Nat.le_of_ble_eq_true rfl) (zc_rf _) (ls2 := [some (va_rf (some a0)), some (.int x1), some (va_rf x2), some (.long (p1 + v53)), none, some (.int p2), none, none, none]) rfl ?_
        obtain ⟨v55, e56⟩ : ∃ y : Int32, y = p2 + (1 : Int32) := ⟨_, rfl⟩
        refine z_iinc hX dX3_layWeights_144 (i := 5) (v := v55) rfl (by rw [e56]; rfl) (Nat.le_of_ble_eq_true rfl) trivial (ls2 := [some (va_rf (some a0)), some (.int x1), some (va_rf x2), some (.long (p1 + v53)), none, some (.int v55), none, none, none]) rfl ?_
        have hw := hw v55 e56
        refine z_goto hX dX3_layWeights_147 (tgt := 5) rfl ?_
        exact hrec4 _ _ _ hw
      · refine z_if_ne hX dX3_layWeights_125 (tgt := 133) rfl (fun c57 => ?_) (fun c57 => ?_)
        · have hw := hw.1 c57
          refine z_lload hX dX3_layWeights_133 (i := 6) rfl ?_
          refine z_lneg hX dX3_layWeights_135 ?_
          refine z_sub (ls' := [some (va_rf (some a0)), some (.int x1), some (va_rf x2), some (.long p1), none, some (.int p2), none, none, none]) (zsS (zsS (zsS (zsS (zsN (zsS (zsN (zsN (zsN (zs0)))))))))) ?_
          exact hj37 _ _ hw
        · have hw := hw.2 c57
          refine z_lload hX dX3_layWeights_128 (i := 6) rfl ?_
          refine z_goto hX dX3_layWeights_130 (tgt := 136) rfl ?_
          refine z_sub (ls' := [some (va_rf (some a0)), some (.int x1), some (va_rf x2), some (.long p1), none, some (.int p2), none, none, none]) (zsS (zsS (zsS (zsS (zsN (zsS (zsN (zsN (zsN (zs0)))))))))) ?_
          exact hj37 _ _ hw
    · have hw := hw.2 c21
      refine z_iconst hX (v := (0 : Int32)) dX3_layWeights_26 (by decide) ?_
      refine z_istore hX dX3_layWeights_27 (i := 7) (Nat.le_of_ble_eq_true rfl) rfl (ls2 := [some (va_rf (some a0)), some (.int x1), some (va_rf x2), some (.long p1), none, some (.int p2), some (.int p12), some (.int (0 : Int32)), none]) rfl ?_
      refine z_iconst hX (v := (0 : Int32)) dX3_layWeights_29 (by decide) ?_
      refine z_istore hX dX3_layWeights_30 (i := 8) (Nat.le_of_ble_eq_true rfl) rfl (ls2 := [some (va_rf (some a0)), some (.int x1), some (va_rf x2), some (.long p1), none, some (.int p2), some (.int p12), some (.int (0 : Int32)), some (.int (0 : Int32))]) rfl ?_
      obtain ⟨n120, hw⟩ := hw
      refine zIt_w (P := fun (j : Int32 → Int32 → zS → Prop) => ∀ (p58 : Int32) (p59 : Int32) (s60 : zS), j p58 p59 s60 → zW X s60 32 [some (va_rf (some a0)), some (.int x1), some (va_rf x2), some (.long p1), none, some (.int p2), some (.int p12), some (.int p58), some (.int p59)] []) (fun _ _ _ h => h.elim) (fun rec61 hrec61 p58 p59 s60 hw => ?_) n120 _ _ _ hw
      refine z_iload hX dX3_layWeights_32 (i := 8) rfl ?_
      refine z_aload_n hX dX3_layWeights_34 rfl (i := 0) rfl ?_
      obtain ⟨a63, f64, v62, r65, m66, e67, hw⟩ := hw
      refine z_get hX zc4 (k := 15) dX3_layWeights_35 (Nat.le_of_ble_eq_true rfl) (zlk hX q2484) r65 m66 e67 ?_
      refine z_icmp_ge hX dX3_layWeights_38 (tgt := 100) rfl (fun c68 => ?_) (fun c68 => ?_)
      · have hw := hw.1 c68
        obtain ⟨v69, e70⟩ : ∃ y : Int32, y = p12 + (1 : Int32) := ⟨_, rfl⟩
        refine z_iinc hX dX3_layWeights_100 (i := 6) (v := v69) rfl (by rw [e70]; rfl) (Nat.le_of_ble_eq_true rfl) rfl (ls2 := [some (va_rf (some a0)), some (.int x1), some (va_rf x2), some (.long p1), none, some (.int p2), some (.int v69), some (.int p58), some (.int p59)]) rfl ?_
        have hw := hw v69 e70
        refine z_goto hX dX3_layWeights_103 (tgt := 17) rfl ?_
        refine z_sub (ls' := [some (va_rf (some a0)), some (.int x1), some (va_rf x2), some (.long p1), none, some (.int p2), some (.int v69), none, none]) (zsS (zsS (zsS (zsS (zsN (zsS (zsS (zsN (zsN (zs0)))))))))) ?_
        exact hrec14 _ _ hw
      · have hw := hw.2 c68
        refine z_iload hX dX3_layWeights_41 (i := 8) rfl ?_
        refine z_iload hX dX3_layWeights_43 (i := 5) rfl ?_
        refine zJ_w (P := fun (j : Int32 → zS → Prop) => ∀ (p71 : Int32) (s72 : zS), j p71 s72 → zW X s72 94 [some (va_rf (some a0)), some (.int x1), some (va_rf x2), some (.long p1), none, some (.int p2), some (.int p12), some (.int p71), some (.int p59)] []) hw (fun p71 s72 hw => ?_) (fun j73 hj73 hw => ?_)
        · obtain ⟨v74, e75⟩ : ∃ y : Int32, y = p59 + (1 : Int32) := ⟨_, rfl⟩
          refine z_iinc hX dX3_layWeights_94 (i := 8) (v := v74) rfl (by rw [e75]; rfl) (Nat.le_of_ble_eq_true rfl) rfl (ls2 := [some (va_rf (some a0)), some (.int x1), some (va_rf x2), some (.long p1), none, some (.int p2), some (.int p12), some (.int p71), some (.int v74)]) rfl ?_
          have hw := hw v74 e75
          refine z_goto hX dX3_layWeights_97 (tgt := 32) rfl ?_
          exact hrec61 _ _ _ hw
        · refine z_icmp_eq hX dX3_layWeights_45 (tgt := 94) rfl (fun c76 => ?_) (fun c76 => ?_)
          · have hw := hw.1 c76
            exact hj73 _ _ hw
          · have hw := hw.2 c76
            refine z_aload_n hX dX3_layWeights_48 rfl (i := 0) rfl ?_
            obtain ⟨a78, f79, v77, r80, m81, e82, hw⟩ := hw
            refine z_get hX zc4 (k := 16) dX3_layWeights_49 (Nat.le_of_ble_eq_true rfl) (zlk hX q2485) r80 m81 e82 ?_
            refine z_iconst hX (v := (1 : Int32)) dX3_layWeights_52 (by decide) ?_
            refine z_aload_n hX dX3_layWeights_53 rfl (i := 0) rfl ?_
            obtain ⟨a84, f85, v83, r86, m87, e88, hw⟩ := hw
            refine z_get hX zc4 (k := 15) dX3_layWeights_54 (Nat.le_of_ble_eq_true rfl) (zlk hX q2484) r86 m87 e88 ?_
            refine z_iconst hX (v := (1 : Int32)) dX3_layWeights_57 (by decide) ?_
            refine z_isub hX dX3_layWeights_58 ?_
            refine z_invS hX hd dX3_layWeights_59 (hC 297 _ zm297 _ _ _ _ hw) q2777 q710 zh8 q711 q137 zn297 rfl (Nat.le_of_ble_eq_true rfl) (st := [va_rf v77]) rfl (zcs8 (Nat.le_of_ble_eq_true rfl)) rfl (zkI (fun v89 s90 hw => ?_)) (zout hX hR hTb)
            refine z_iload hX dX3_layWeights_62 (i := 6) rfl ?_
            refine z_iconst hX (v := (1 : Int32)) dX3_layWeights_64 (by decide) ?_
            refine z_isub hX dX3_layWeights_65 ?_
            refine z_iload hX dX3_layWeights_66 (i := 7) rfl ?_
            refine z_invS hX hd dX3_layWeights_68 (hC 203 _ zm203 _ _ _ _ hw) q2778 q2779 zh7 q2780 q136 zn203 rfl (Nat.le_of_ble_eq_true rfl) (st := [va_rf v77]) rfl (zcs8 (Nat.le_of_ble_eq_true rfl)) rfl (zkI (fun v92 s93 hw => ?_)) (zout hX hR hTb)
            refine z_aload_n hX dX3_layWeights_71 rfl (i := 0) rfl ?_
            refine z_iload_n hX dX3_layWeights_72 rfl (i := 1) rfl ?_
            refine z_iload hX dX3_layWeights_73 (i := 8) rfl ?_
            refine z_iload hX dX3_layWeights_75 (i := 6) rfl ?_
            obtain ⟨a98, f99, r100, m101, hw⟩ := hw
            refine z_invV hX hd r100 (ci := 4) rfl rfl m101 dX3_layWeights_77 (hC 204 _ zm204 _ _ _ _ hw) q2781 q2783 qs74 zh7 q2784 q136 zn204 rfl (Nat.le_of_ble_eq_true rfl) (st := [.int v92, va_rf v77]) rfl (zcs8 (Nat.le_of_ble_eq_true rfl)) rfl (zkI (fun v95 s96 hw => ?_)) (zout hX hR hTb)
            refine z_aload_n hX dX3_layWeights_80 rfl (i := 0) rfl ?_
            refine z_iload_n hX dX3_layWeights_81 rfl (i := 1) rfl ?_
            refine z_iload hX dX3_layWeights_82 (i := 8) rfl ?_
            refine z_iconst hX (v := (0 : Int32)) dX3_layWeights_84 (by decide) ?_
            obtain ⟨a105, f106, r107, m108, hw⟩ := hw
            refine z_invV hX hd r107 (ci := 4) rfl rfl m108 dX3_layWeights_85 (hC 204 _ zm204 _ _ _ _ hw) q2781 q2783 qs74 zh7 q2784 q136 zn204 rfl (Nat.le_of_ble_eq_true rfl) (st := [.int v95, .int v92, va_rf v77]) rfl (zcs8 (Nat.le_of_ble_eq_true rfl)) rfl (zkI (fun v102 s103 hw => ?_)) (zout hX hR hTb)
            refine z_isub hX dX3_layWeights_88 ?_
            refine z_i2l hX dX3_layWeights_89 ?_
            obtain ⟨a109, n110, f111, r112, g113, m114, i115, hw⟩ := hw
            refine z_last hX dX3_layWeights_90 r112 g113 m114 i115 (z_nm (fun s116 e117 => ?_))
            have hw := hw s116 e117
            obtain ⟨v118, e119⟩ : ∃ y : Int32, y = p58 + (1 : Int32) := ⟨_, rfl⟩
            refine z_iinc hX dX3_layWeights_91 (i := 7) (v := v118) rfl (by rw [e119]; rfl) (Nat.le_of_ble_eq_true rfl) rfl (ls2 := [some (va_rf (some a0)), some (.int x1), some (va_rf x2), some (.long p1), none, some (.int p2), some (.int p12), some (.int v118), some (.int p59)]) rfl ?_
            have hw := hw v118 e119
            exact hj73 _ _ hw
abbrev cX3_matrixAt : ByteArray := prog_28_method_35_code
def yX3_matrixAt : MethodName := ⟨RX3, "matrixAt", "(III)I"⟩
def dkwX3_matrixAt_0 : List UInt8 := [16, 25, 26, 4, 100, 104, 8, 27, 104, 96, 28, 96, 172]
abbrev dktX3_matrixAt_0 : List UInt8 := dkwX3_matrixAt_0 ++ []
theorem dksX3_matrixAt_0 : cX3_matrixAt.data.toList.drop 0 = dktX3_matrixAt_0 := by decide +kernel
theorem dX3_matrixAt_0 : decode cX3_matrixAt 0 = .ok (.bipush 25, 2) := dk_16 25 (dk_at dksX3_matrixAt_0 0 rfl rfl)
theorem dX3_matrixAt_2 : decode cX3_matrixAt 2 = .ok (.iload_n 0, 1) := dk_26 (dk_at dksX3_matrixAt_0 2 rfl rfl)
theorem dX3_matrixAt_3 : decode cX3_matrixAt 3 = .ok (.iconst 1, 1) := dk_4 (dk_at dksX3_matrixAt_0 3 rfl rfl)
theorem dX3_matrixAt_4 : decode cX3_matrixAt 4 = .ok (.isub, 1) := dk_100 (dk_at dksX3_matrixAt_0 4 rfl rfl)
theorem dX3_matrixAt_5 : decode cX3_matrixAt 5 = .ok (.imul, 1) := dk_104 (dk_at dksX3_matrixAt_0 5 rfl rfl)
theorem dX3_matrixAt_6 : decode cX3_matrixAt 6 = .ok (.iconst 5, 1) := dk_8 (dk_at dksX3_matrixAt_0 6 rfl rfl)
theorem dX3_matrixAt_7 : decode cX3_matrixAt 7 = .ok (.iload_n 1, 1) := dk_27 (dk_at dksX3_matrixAt_0 7 rfl rfl)
theorem dX3_matrixAt_8 : decode cX3_matrixAt 8 = .ok (.imul, 1) := dk_104 (dk_at dksX3_matrixAt_0 8 rfl rfl)
theorem dX3_matrixAt_9 : decode cX3_matrixAt 9 = .ok (.iadd, 1) := dk_96 (dk_at dksX3_matrixAt_0 9 rfl rfl)
theorem dX3_matrixAt_10 : decode cX3_matrixAt 10 = .ok (.iload_n 2, 1) := dk_28 (dk_at dksX3_matrixAt_0 10 rfl rfl)
theorem dX3_matrixAt_11 : decode cX3_matrixAt 11 = .ok (.iadd, 1) := dk_96 (dk_at dksX3_matrixAt_0 11 rfl rfl)
theorem dX3_matrixAt_12 : decode cX3_matrixAt 12 = .ok (.ireturn, 1) := dk_172 (dk_at dksX3_matrixAt_0 12 rfl rfl)
/-- PackingDuelModel.matrixAt(III)I -/
def zb203 (G : zPg) (C : zO) (args : List Value) (Q : zQ) (Y : zY) (σ : zS) : Prop := ∃ (x1 : Int32) (x2 : Int32) (x3 : Int32), args = [.int x1, .int x2, .int x3] ∧ ((∀ v1 : Int32, v1 = (((25 : Int32) * (x1 - (1 : Int32))) + ((5 : Int32) * x2)) → Q (some (.int (v1 + x3))) σ))
set_option maxHeartbeats 4000000 in
theorem wk203 {l : Launch} {g : zG} {d : Nat} {C : zO} (hG : zGk g) (hC : zSound l g d C) {args : List Value} {Q : zQ} {Y : zY} {σ : zS} (hw : zb203 (zpg g) C args Q Y σ) : zMet l g (d + 1) (⟨"PackingDuelModel", "matrixAt", "(III)I"⟩, Cond.code ⟨"PackingDuelModel", "matrixAt", "(III)I"⟩ prog_28_method_35_code 3 (Option.some FieldType.int)) args σ Q Y := by
  obtain ⟨x1, x2, x3, rfl, hw⟩ := hw
  refine zof hG (by decide +kernel) [false, false, false] ⟨rfl, rfl, rfl, trivial⟩ (Nat.le_of_ble_eq_true rfl) (ls := [some (.int x1), some (.int x2), some (.int x3)]) rfl ?_
  intro X hX hR hTb hd1 hd2 hl hg hnm
  subst hl
  subst hg
  have hd : zDep X d := ⟨hd1, hd2⟩
  refine z_bipush hX (v := (25 : Int32)) dX3_matrixAt_0 (by decide) ?_
  refine z_iload_n hX dX3_matrixAt_2 rfl (i := 0) rfl ?_
  refine z_iconst hX (v := (1 : Int32)) dX3_matrixAt_3 (by decide) ?_
  refine z_isub hX dX3_matrixAt_4 ?_
  refine z_imul hX dX3_matrixAt_5 ?_
  refine z_iconst hX (v := (5 : Int32)) dX3_matrixAt_6 (by decide) ?_
  refine z_iload_n hX dX3_matrixAt_7 rfl (i := 1) rfl ?_
  refine z_imul hX dX3_matrixAt_8 ?_
  refine z_iadd hX dX3_matrixAt_9 ?_
  refine z_topi (fun v1 e2 => ?_)
  have hw := hw v1 e2
  refine z_iload_n hX dX3_matrixAt_10 rfl (i := 2) rfl ?_
  refine z_iadd hX dX3_matrixAt_11 ?_
  exact z_ireturn hX hR dX3_matrixAt_12 rfl hw
abbrev cX3_cellOf : ByteArray := prog_28_method_34_code
def yX3_cellOf : MethodName := ⟨RX3, "cellOf", "(ZII)I"⟩
def dkwX3_cellOf_1 : List UInt8 := [167, 0, 23, 42, 180, 0, 37, 8, 42, 180, 0, 40, 29, 46, 104, 42, 180, 0, 43, 28, 46, 96, 46, 172]
abbrev dktX3_cellOf_1 : List UInt8 := dkwX3_cellOf_1 ++ []
def dkwX3_cellOf_0 : List UInt8 := [27, 153, 0, 26, 42, 180, 0, 37, 8, 42, 180, 0, 40, 28, 46, 104, 42, 180, 0, 43, 29, 46, 96, 46]
abbrev dktX3_cellOf_0 : List UInt8 := dkwX3_cellOf_0 ++ dktX3_cellOf_1
theorem dksX3_cellOf_0 : cX3_cellOf.data.toList.drop 0 = dktX3_cellOf_0 := by decide +kernel
theorem dksX3_cellOf_1 : cX3_cellOf.data.toList.drop 24 = dktX3_cellOf_1 := dk_seg dksX3_cellOf_0 24 rfl rfl
theorem dX3_cellOf_0 : decode cX3_cellOf 0 = .ok (.iload_n 1, 1) := dk_27 (dk_at dksX3_cellOf_0 0 rfl rfl)
theorem dX3_cellOf_1 : decode cX3_cellOf 1 = .ok (.ifCond .eq 26, 3) := dk_153 0 26 (dk_at dksX3_cellOf_0 1 rfl rfl)
theorem dX3_cellOf_4 : decode cX3_cellOf 4 = .ok (.aload_n 0, 1) := dk_42 (dk_at dksX3_cellOf_0 4 rfl rfl)
theorem dX3_cellOf_5 : decode cX3_cellOf 5 = .ok (.getfield 37, 3) := dk_180 0 37 (dk_at dksX3_cellOf_0 5 rfl rfl)
theorem dX3_cellOf_8 : decode cX3_cellOf 8 = .ok (.iconst 5, 1) := dk_8 (dk_at dksX3_cellOf_0 8 rfl rfl)
theorem dX3_cellOf_9 : decode cX3_cellOf 9 = .ok (.aload_n 0, 1) := dk_42 (dk_at dksX3_cellOf_0 9 rfl rfl)
theorem dX3_cellOf_10 : decode cX3_cellOf 10 = .ok (.getfield 40, 3) := dk_180 0 40 (dk_at dksX3_cellOf_0 10 rfl rfl)
theorem dX3_cellOf_13 : decode cX3_cellOf 13 = .ok (.iload_n 2, 1) := dk_28 (dk_at dksX3_cellOf_0 13 rfl rfl)
theorem dX3_cellOf_14 : decode cX3_cellOf 14 = .ok (.iaload, 1) := dk_46 (dk_at dksX3_cellOf_0 14 rfl rfl)
theorem dX3_cellOf_15 : decode cX3_cellOf 15 = .ok (.imul, 1) := dk_104 (dk_at dksX3_cellOf_0 15 rfl rfl)
theorem dX3_cellOf_16 : decode cX3_cellOf 16 = .ok (.aload_n 0, 1) := dk_42 (dk_at dksX3_cellOf_0 16 rfl rfl)
theorem dX3_cellOf_17 : decode cX3_cellOf 17 = .ok (.getfield 43, 3) := dk_180 0 43 (dk_at dksX3_cellOf_0 17 rfl rfl)
theorem dX3_cellOf_20 : decode cX3_cellOf 20 = .ok (.iload_n 3, 1) := dk_29 (dk_at dksX3_cellOf_0 20 rfl rfl)
theorem dX3_cellOf_21 : decode cX3_cellOf 21 = .ok (.iaload, 1) := dk_46 (dk_at dksX3_cellOf_0 21 rfl rfl)
theorem dX3_cellOf_22 : decode cX3_cellOf 22 = .ok (.iadd, 1) := dk_96 (dk_at dksX3_cellOf_0 22 rfl rfl)
theorem dX3_cellOf_23 : decode cX3_cellOf 23 = .ok (.iaload, 1) := dk_46 (dk_at dksX3_cellOf_0 23 rfl rfl)
theorem dX3_cellOf_24 : decode cX3_cellOf 24 = .ok (.goto 23, 3) := dk_167 0 23 (dk_at dksX3_cellOf_1 0 rfl rfl)
theorem dX3_cellOf_27 : decode cX3_cellOf 27 = .ok (.aload_n 0, 1) := dk_42 (dk_at dksX3_cellOf_1 3 rfl rfl)
theorem dX3_cellOf_28 : decode cX3_cellOf 28 = .ok (.getfield 37, 3) := dk_180 0 37 (dk_at dksX3_cellOf_1 4 rfl rfl)
theorem dX3_cellOf_31 : decode cX3_cellOf 31 = .ok (.iconst 5, 1) := dk_8 (dk_at dksX3_cellOf_1 7 rfl rfl)
theorem dX3_cellOf_32 : decode cX3_cellOf 32 = .ok (.aload_n 0, 1) := dk_42 (dk_at dksX3_cellOf_1 8 rfl rfl)
theorem dX3_cellOf_33 : decode cX3_cellOf 33 = .ok (.getfield 40, 3) := dk_180 0 40 (dk_at dksX3_cellOf_1 9 rfl rfl)
theorem dX3_cellOf_36 : decode cX3_cellOf 36 = .ok (.iload_n 3, 1) := dk_29 (dk_at dksX3_cellOf_1 12 rfl rfl)
theorem dX3_cellOf_37 : decode cX3_cellOf 37 = .ok (.iaload, 1) := dk_46 (dk_at dksX3_cellOf_1 13 rfl rfl)
theorem dX3_cellOf_38 : decode cX3_cellOf 38 = .ok (.imul, 1) := dk_104 (dk_at dksX3_cellOf_1 14 rfl rfl)
theorem dX3_cellOf_39 : decode cX3_cellOf 39 = .ok (.aload_n 0, 1) := dk_42 (dk_at dksX3_cellOf_1 15 rfl rfl)
theorem dX3_cellOf_40 : decode cX3_cellOf 40 = .ok (.getfield 43, 3) := dk_180 0 43 (dk_at dksX3_cellOf_1 16 rfl rfl)
theorem dX3_cellOf_43 : decode cX3_cellOf 43 = .ok (.iload_n 2, 1) := dk_28 (dk_at dksX3_cellOf_1 19 rfl rfl)
theorem dX3_cellOf_44 : decode cX3_cellOf 44 = .ok (.iaload, 1) := dk_46 (dk_at dksX3_cellOf_1 20 rfl rfl)
theorem dX3_cellOf_45 : decode cX3_cellOf 45 = .ok (.iadd, 1) := dk_96 (dk_at dksX3_cellOf_1 21 rfl rfl)
theorem dX3_cellOf_46 : decode cX3_cellOf 46 = .ok (.iaload, 1) := dk_46 (dk_at dksX3_cellOf_1 22 rfl rfl)
theorem dX3_cellOf_47 : decode cX3_cellOf 47 = .ok (.ireturn, 1) := dk_172 (dk_at dksX3_cellOf_1 23 rfl rfl)
/-- PackingDuelModel.cellOf(ZII)I -/
def zb204 (G : zPg) (C : zO) (args : List Value) (Q : zQ) (Y : zY) (σ : zS) : Prop := ∃ (a0 : Nat) (x1 : Int32) (x2 : Int32) (x3 : Int32), args = [.ref a0, .int x1, .int x2, .int x3] ∧ (zJ (fun (p1 : Int32) (s2 : zS) => Q (some (.int p1)) s2) (fun (j3 : Int32 → zS → Prop) => ((x1 = 0) → zgR σ (some a0) 4 12 (fun v5 => zgR σ (some a0) 4 13 (fun v11 => zaI σ 0 v11 x3 (fun v23 => zgR σ (some a0) 4 14 (fun v25 => zaI σ 0 v25 x2 (fun v37 => zaI σ 0 v5 (((5 : Int32) * v23) + v37) (fun v45 => j3 v45 σ))))))) ∧ ((¬ x1 = 0) → zgR σ (some a0) 4 12 (fun v47 => zgR σ (some a0) 4 13 (fun v53 => zaI σ 0 v53 x2 (fun v65 => zgR σ (some a0) 4 14 (fun v67 => zaI σ 0 v67 x3 (fun v79 => zaI σ 0 v47 (((5 : Int32) * v65) + v79) (fun v87 => j3 v87 σ)))))))))
set_option maxHeartbeats 4000000 in
theorem wk204 {l : Launch} {g : zG} {d : Nat} {C : zO} (hG : zGk g) (hC : zSound l g d C) {args : List Value} {Q : zQ} {Y : zY} {σ : zS} (hw : zb204 (zpg g) C args Q Y σ) : zMet l g (d + 1) (⟨"PackingDuelModel", "cellOf", "(ZII)I"⟩, Cond.code ⟨"PackingDuelModel", "cellOf", "(ZII)I"⟩ prog_28_method_34_code 4 (Option.some FieldType.int)) args σ Q Y := by
  obtain ⟨a0, x1, x2, x3, rfl, hw⟩ := hw
  refine zof hG (by decide +kernel) [false, false, false, false] ⟨rfl, rfl, rfl, rfl, trivial⟩ (Nat.le_of_ble_eq_true rfl) (ls := [some (va_rf (some a0)), some (.int x1), some (.int x2), some (.int x3)]) rfl ?_
  intro X hX hR hTb hd1 hd2 hl hg hnm
  subst hl
  subst hg
  have hd : zDep X d := ⟨hd1, hd2⟩
  refine z_iload_n hX dX3_cellOf_0 rfl (i := 1) rfl ?_
  refine zJ_w (P := fun (j : Int32 → zS → Prop) => ∀ (p1 : Int32) (s2 : zS), j p1 s2 → zW X s2 47 [none, none, none, none] [.int p1]) hw (fun p1 s2 hw => ?_) (fun j3 hj3 hw => ?_)
  · exact z_ireturn hX hR dX3_cellOf_47 rfl hw
  · refine z_if_eq hX dX3_cellOf_1 (tgt := 27) rfl (fun c4 => ?_) (fun c4 => ?_)
    · have hw := hw.1 c4
      refine z_aload_n hX dX3_cellOf_27 rfl (i := 0) rfl ?_
      obtain ⟨a6, f7, v5, r8, m9, e10, hw⟩ := hw
      refine z_get hX zc4 (k := 12) dX3_cellOf_28 (Nat.le_of_ble_eq_true rfl) (zlk hX q2481) r8 m9 e10 ?_
      refine z_iconst hX (v := (5 : Int32)) dX3_cellOf_31 (by decide) ?_
      refine z_aload_n hX dX3_cellOf_32 rfl (i := 0) rfl ?_
      obtain ⟨a12, f13, v11, r14, m15, e16, hw⟩ := hw
      refine z_get hX zc4 (k := 13) dX3_cellOf_33 (Nat.le_of_ble_eq_true rfl) (zlk hX q2482) r14 m15 e16 ?_
      refine z_iload_n hX dX3_cellOf_36 rfl (i := 3) rfl ?_
      obtain ⟨a17, n18, f19, r20, m21, i22, hw⟩ := hw
      refine z_iald hX dX3_cellOf_37 r20 m21 i22 ?_
      revert hw
      generalize f19 (Int32.toNatClampNeg x3) = v23
      intro hw
      refine z_imul hX dX3_cellOf_38 ?_
      refine z_aload_n hX dX3_cellOf_39 rfl (i := 0) rfl ?_
      obtain ⟨a26, f27, v25, r28, m29, e30, hw⟩ := hw
      refine z_get hX zc4 (k := 14) dX3_cellOf_40 (Nat.le_of_ble_eq_true rfl) (zlk hX q2483) r28 m29 e30 ?_
      refine z_iload_n hX dX3_cellOf_43 rfl (i := 2) rfl ?_
      obtain ⟨a31, n32, f33, r34, m35, i36, hw⟩ := hw
      refine z_iald hX dX3_cellOf_44 r34 m35 i36 ?_
      revert hw
      generalize f33 (Int32.toNatClampNeg x2) = v37
      intro hw
      refine z_iadd hX dX3_cellOf_45 ?_
      obtain ⟨a39, n40, f41, r42, m43, i44, hw⟩ := hw
      refine z_iald hX dX3_cellOf_46 r42 m43 i44 ?_
      revert hw
      generalize f41 (Int32.toNatClampNeg (((5 : Int32) * v23) + v37)) = v45
      intro hw
      refine z_sub (ls' := [none, none, none, none]) (zsN (zsN (zsN (zsN (zs0))))) ?_
      exact hj3 _ _ hw
    · have hw := hw.2 c4
      refine z_aload_n hX dX3_cellOf_4 rfl (i := 0) rfl ?_
      obtain ⟨a48, f49, v47, r50, m51, e52, hw⟩ := hw
      refine z_get hX zc4 (k := 12) dX3_cellOf_5 (Nat.le_of_ble_eq_true rfl) (zlk hX q2481) r50 m51 e52 ?_
      refine z_iconst hX (v := (5 : Int32)) dX3_cellOf_8 (by decide) ?_
      refine z_aload_n hX dX3_cellOf_9 rfl (i := 0) rfl ?_
      obtain ⟨a54, f55, v53, r56, m57, e58, hw⟩ := hw
      refine z_get hX zc4 (k := 13) dX3_cellOf_10 (Nat.le_of_ble_eq_true rfl) (zlk hX q2482) r56 m57 e58 ?_
      refine z_iload_n hX dX3_cellOf_13 rfl (i := 2) rfl ?_
      obtain ⟨a59, n60, f61, r62, m63, i64, hw⟩ := hw
      refine z_iald hX dX3_cellOf_14 r62 m63 i64 ?_
      revert hw
      generalize f61 (Int32.toNatClampNeg x2) = v65
      intro hw
      refine z_imul hX dX3_cellOf_15 ?_
      refine z_aload_n hX dX3_cellOf_16 rfl (i := 0) rfl ?_
      obtain ⟨a68, f69, v67, r70, m71, e72, hw⟩ := hw
      refine z_get hX zc4 (k := 14) dX3_cellOf_17 (Nat.le_of_ble_eq_true rfl) (zlk hX q2483) r70 m71 e72 ?_
      refine z_iload_n hX dX3_cellOf_20 rfl (i := 3) rfl ?_
      obtain ⟨a73, n74, f75, r76, m77, i78, hw⟩ := hw
      refine z_iald hX dX3_cellOf_21 r76 m77 i78 ?_
      revert hw
      generalize f75 (Int32.toNatClampNeg x3) = v79
      intro hw
      refine z_iadd hX dX3_cellOf_22 ?_
      obtain ⟨a81, n82, f83, r84, m85, i86, hw⟩ := hw
      refine z_iald hX dX3_cellOf_23 r84 m85 i86 ?_
      revert hw
      generalize f83 (Int32.toNatClampNeg (((5 : Int32) * v65) + v79)) = v87
      intro hw
      refine z_goto hX dX3_cellOf_24 (tgt := 47) rfl ?_
      refine z_sub (ls' := [none, none, none, none]) (zsN (zsN (zsN (zsN (zs0))))) ?_
      exact hj3 _ _ hw
abbrev cX3_determinant : ByteArray := prog_28_method_36_code
def yX3_determinant : MethodName := ⟨RX3, "determinant", "(I)J"⟩
def dkwX3_determinant_3 : List UInt8 := [167, 0, 6, 22, 5, 117, 42, 27, 4, 100, 182, 0, 182, 105, 97, 65, 132, 4, 1, 167, 255, 193, 32, 173]
abbrev dktX3_determinant_3 : List UInt8 := dkwX3_determinant_3 ++ []
def dkwX3_determinant_2 : List UInt8 := [22, 5, 9, 148, 153, 0, 36, 42, 27, 21, 4, 182, 0, 178, 32, 21, 4, 5, 112, 154, 0, 8, 22, 5]
abbrev dktX3_determinant_2 : List UInt8 := dkwX3_determinant_2 ++ dktX3_determinant_3
def dkwX3_determinant_1 : List UInt8 := [65, 3, 54, 4, 21, 4, 27, 162, 0, 63, 42, 180, 0, 46, 27, 3, 21, 4, 184, 0, 174, 47, 55, 5]
abbrev dktX3_determinant_1 : List UInt8 := dkwX3_determinant_1 ++ dktX3_determinant_2
def dkwX3_determinant_0 : List UInt8 := [27, 154, 0, 5, 10, 173, 27, 4, 160, 0, 15, 42, 180, 0, 46, 4, 3, 3, 184, 0, 174, 47, 173, 9]
abbrev dktX3_determinant_0 : List UInt8 := dkwX3_determinant_0 ++ dktX3_determinant_1
theorem dksX3_determinant_0 : cX3_determinant.data.toList.drop 0 = dktX3_determinant_0 := by decide +kernel
theorem dksX3_determinant_1 : cX3_determinant.data.toList.drop 24 = dktX3_determinant_1 := dk_seg dksX3_determinant_0 24 rfl rfl
theorem dksX3_determinant_2 : cX3_determinant.data.toList.drop 48 = dktX3_determinant_2 := dk_seg dksX3_determinant_1 24 rfl rfl
theorem dksX3_determinant_3 : cX3_determinant.data.toList.drop 72 = dktX3_determinant_3 := dk_seg dksX3_determinant_2 24 rfl rfl
theorem dX3_determinant_0 : decode cX3_determinant 0 = .ok (.iload_n 1, 1) := dk_27 (dk_at dksX3_determinant_0 0 rfl rfl)
theorem dX3_determinant_1 : decode cX3_determinant 1 = .ok (.ifCond .ne 5, 3) := dk_154 0 5 (dk_at dksX3_determinant_0 1 rfl rfl)
theorem dX3_determinant_4 : decode cX3_determinant 4 = .ok (.lconst 1, 1) := dk_10 (dk_at dksX3_determinant_0 4 rfl rfl)
theorem dX3_determinant_5 : decode cX3_determinant 5 = .ok (.lreturn, 1) := dk_173 (dk_at dksX3_determinant_0 5 rfl rfl)
theorem dX3_determinant_6 : decode cX3_determinant 6 = .ok (.iload_n 1, 1) := dk_27 (dk_at dksX3_determinant_0 6 rfl rfl)
theorem dX3_determinant_7 : decode cX3_determinant 7 = .ok (.iconst 1, 1) := dk_4 (dk_at dksX3_determinant_0 7 rfl rfl)
theorem dX3_determinant_8 : decode cX3_determinant 8 = .ok (.if_icmp .ne 15, 3) := dk_160 0 15 (dk_at dksX3_determinant_0 8 rfl rfl)
theorem dX3_determinant_11 : decode cX3_determinant 11 = .ok (.aload_n 0, 1) := dk_42 (dk_at dksX3_determinant_0 11 rfl rfl)
theorem dX3_determinant_12 : decode cX3_determinant 12 = .ok (.getfield 46, 3) := dk_180 0 46 (dk_at dksX3_determinant_0 12 rfl rfl)
theorem dX3_determinant_15 : decode cX3_determinant 15 = .ok (.iconst 1, 1) := dk_4 (dk_at dksX3_determinant_0 15 rfl rfl)
theorem dX3_determinant_16 : decode cX3_determinant 16 = .ok (.iconst 0, 1) := dk_3 (dk_at dksX3_determinant_0 16 rfl rfl)
theorem dX3_determinant_17 : decode cX3_determinant 17 = .ok (.iconst 0, 1) := dk_3 (dk_at dksX3_determinant_0 17 rfl rfl)
theorem dX3_determinant_18 : decode cX3_determinant 18 = .ok (.invokestatic 174, 3) := dk_184 0 174 (dk_at dksX3_determinant_0 18 rfl rfl)
theorem dX3_determinant_21 : decode cX3_determinant 21 = .ok (.laload, 1) := dk_47 (dk_at dksX3_determinant_0 21 rfl rfl)
theorem dX3_determinant_22 : decode cX3_determinant 22 = .ok (.lreturn, 1) := dk_173 (dk_at dksX3_determinant_0 22 rfl rfl)
theorem dX3_determinant_23 : decode cX3_determinant 23 = .ok (.lconst 0, 1) := dk_9 (dk_at dksX3_determinant_0 23 rfl rfl)
theorem dX3_determinant_24 : decode cX3_determinant 24 = .ok (.lstore_n 2, 1) := dk_65 (dk_at dksX3_determinant_1 0 rfl rfl)
theorem dX3_determinant_25 : decode cX3_determinant 25 = .ok (.iconst 0, 1) := dk_3 (dk_at dksX3_determinant_1 1 rfl rfl)
theorem dX3_determinant_26 : decode cX3_determinant 26 = .ok (.istore 4, 2) := dk_54 4 (dk_at dksX3_determinant_1 2 rfl rfl)
theorem dX3_determinant_28 : decode cX3_determinant 28 = .ok (.iload 4, 2) := dk_21 4 (dk_at dksX3_determinant_1 4 rfl rfl)
theorem dX3_determinant_30 : decode cX3_determinant 30 = .ok (.iload_n 1, 1) := dk_27 (dk_at dksX3_determinant_1 6 rfl rfl)
theorem dX3_determinant_31 : decode cX3_determinant 31 = .ok (.if_icmp .ge 63, 3) := dk_162 0 63 (dk_at dksX3_determinant_1 7 rfl rfl)
theorem dX3_determinant_34 : decode cX3_determinant 34 = .ok (.aload_n 0, 1) := dk_42 (dk_at dksX3_determinant_1 10 rfl rfl)
theorem dX3_determinant_35 : decode cX3_determinant 35 = .ok (.getfield 46, 3) := dk_180 0 46 (dk_at dksX3_determinant_1 11 rfl rfl)
theorem dX3_determinant_38 : decode cX3_determinant 38 = .ok (.iload_n 1, 1) := dk_27 (dk_at dksX3_determinant_1 14 rfl rfl)
theorem dX3_determinant_39 : decode cX3_determinant 39 = .ok (.iconst 0, 1) := dk_3 (dk_at dksX3_determinant_1 15 rfl rfl)
theorem dX3_determinant_40 : decode cX3_determinant 40 = .ok (.iload 4, 2) := dk_21 4 (dk_at dksX3_determinant_1 16 rfl rfl)
theorem dX3_determinant_42 : decode cX3_determinant 42 = .ok (.invokestatic 174, 3) := dk_184 0 174 (dk_at dksX3_determinant_1 18 rfl rfl)
theorem dX3_determinant_45 : decode cX3_determinant 45 = .ok (.laload, 1) := dk_47 (dk_at dksX3_determinant_1 21 rfl rfl)
theorem dX3_determinant_46 : decode cX3_determinant 46 = .ok (.lstore 5, 2) := dk_55 5 (dk_at dksX3_determinant_1 22 rfl rfl)
theorem dX3_determinant_48 : decode cX3_determinant 48 = .ok (.lload 5, 2) := dk_22 5 (dk_at dksX3_determinant_2 0 rfl rfl)
theorem dX3_determinant_50 : decode cX3_determinant 50 = .ok (.lconst 0, 1) := dk_9 (dk_at dksX3_determinant_2 2 rfl rfl)
theorem dX3_determinant_51 : decode cX3_determinant 51 = .ok (.lcmp, 1) := dk_148 (dk_at dksX3_determinant_2 3 rfl rfl)
theorem dX3_determinant_52 : decode cX3_determinant 52 = .ok (.ifCond .eq 36, 3) := dk_153 0 36 (dk_at dksX3_determinant_2 4 rfl rfl)
theorem dX3_determinant_55 : decode cX3_determinant 55 = .ok (.aload_n 0, 1) := dk_42 (dk_at dksX3_determinant_2 7 rfl rfl)
theorem dX3_determinant_56 : decode cX3_determinant 56 = .ok (.iload_n 1, 1) := dk_27 (dk_at dksX3_determinant_2 8 rfl rfl)
theorem dX3_determinant_57 : decode cX3_determinant 57 = .ok (.iload 4, 2) := dk_21 4 (dk_at dksX3_determinant_2 9 rfl rfl)
theorem dX3_determinant_59 : decode cX3_determinant 59 = .ok (.invokevirtual 178, 3) := dk_182 0 178 (dk_at dksX3_determinant_2 11 rfl rfl)
theorem dX3_determinant_62 : decode cX3_determinant 62 = .ok (.lload_n 2, 1) := dk_32 (dk_at dksX3_determinant_2 14 rfl rfl)
theorem dX3_determinant_63 : decode cX3_determinant 63 = .ok (.iload 4, 2) := dk_21 4 (dk_at dksX3_determinant_2 15 rfl rfl)
theorem dX3_determinant_65 : decode cX3_determinant 65 = .ok (.iconst 2, 1) := dk_5 (dk_at dksX3_determinant_2 17 rfl rfl)
theorem dX3_determinant_66 : decode cX3_determinant 66 = .ok (.irem, 1) := dk_112 (dk_at dksX3_determinant_2 18 rfl rfl)
theorem dX3_determinant_67 : decode cX3_determinant 67 = .ok (.ifCond .ne 8, 3) := dk_154 0 8 (dk_at dksX3_determinant_2 19 rfl rfl)
theorem dX3_determinant_70 : decode cX3_determinant 70 = .ok (.lload 5, 2) := dk_22 5 (dk_at dksX3_determinant_2 22 rfl rfl)
theorem dX3_determinant_72 : decode cX3_determinant 72 = .ok (.goto 6, 3) := dk_167 0 6 (dk_at dksX3_determinant_3 0 rfl rfl)
theorem dX3_determinant_75 : decode cX3_determinant 75 = .ok (.lload 5, 2) := dk_22 5 (dk_at dksX3_determinant_3 3 rfl rfl)
theorem dX3_determinant_77 : decode cX3_determinant 77 = .ok (.lneg, 1) := dk_117 (dk_at dksX3_determinant_3 5 rfl rfl)
theorem dX3_determinant_78 : decode cX3_determinant 78 = .ok (.aload_n 0, 1) := dk_42 (dk_at dksX3_determinant_3 6 rfl rfl)
theorem dX3_determinant_79 : decode cX3_determinant 79 = .ok (.iload_n 1, 1) := dk_27 (dk_at dksX3_determinant_3 7 rfl rfl)
theorem dX3_determinant_80 : decode cX3_determinant 80 = .ok (.iconst 1, 1) := dk_4 (dk_at dksX3_determinant_3 8 rfl rfl)
theorem dX3_determinant_81 : decode cX3_determinant 81 = .ok (.isub, 1) := dk_100 (dk_at dksX3_determinant_3 9 rfl rfl)
theorem dX3_determinant_82 : decode cX3_determinant 82 = .ok (.invokevirtual 182, 3) := dk_182 0 182 (dk_at dksX3_determinant_3 10 rfl rfl)
theorem dX3_determinant_85 : decode cX3_determinant 85 = .ok (.lmul, 1) := dk_105 (dk_at dksX3_determinant_3 13 rfl rfl)
theorem dX3_determinant_86 : decode cX3_determinant 86 = .ok (.ladd, 1) := dk_97 (dk_at dksX3_determinant_3 14 rfl rfl)
theorem dX3_determinant_87 : decode cX3_determinant 87 = .ok (.lstore_n 2, 1) := dk_65 (dk_at dksX3_determinant_3 15 rfl rfl)
theorem dX3_determinant_88 : decode cX3_determinant 88 = .ok (.iinc 4 1, 3) := dk_132 4 1 (dk_at dksX3_determinant_3 16 rfl rfl)
theorem dX3_determinant_91 : decode cX3_determinant 91 = .ok (.goto (-63), 3) := dk_167 255 193 (dk_at dksX3_determinant_3 19 rfl rfl)
theorem dX3_determinant_94 : decode cX3_determinant 94 = .ok (.lload_n 2, 1) := dk_32 (dk_at dksX3_determinant_3 22 rfl rfl)
theorem dX3_determinant_95 : decode cX3_determinant 95 = .ok (.lreturn, 1) := dk_173 (dk_at dksX3_determinant_3 23 rfl rfl)
/-- PackingDuelModel.determinant(I)J -/
def zb205 (G : zPg) (C : zO) (args : List Value) (Q : zQ) (Y : zY) (σ : zS) : Prop := ∃ (a0 : Nat) (x1 : Int32), args = [.ref a0, .int x1] ∧ (((¬ x1 = 0) → ((¬ x1 = (1 : Int32)) → ∃ n, zIt (fun _ _ _ => False) (fun rec6 (p3 : Int64) (p4 : Int32) (s5 : zS) => ((x1 ≤ p4) → Q (some (.long p3)) s5) ∧ ((¬ x1 ≤ p4) → zgR s5 (some a0) 4 16 (fun v8 => zcl C 203 [.int x1, .int (0 : Int32), .int p4] Y s5 (zqI (fun v14 s15 => zaL s15 v8 v14 (fun v23 => zJ (fun (p25 : Int64) (s26 : zS) => (∀ v28 : Int32, v28 = p4 + (1 : Int32) → rec6 p25 v28 s26)) (fun (j27 : Int64 → zS → Prop) => (((lg_cmp v23 (0 : Int64)) = 0) → j27 p3 s15) ∧ ((¬ (lg_cmp v23 (0 : Int64)) = 0) → zrc s15 (some a0) 4 (fun a34 => zcl C 206 [.ref a34, .int x1, .int p4] Y s15 (zqV (fun s32 => (¬ (2 : Int32) = 0 ∧ zJ (fun (p38 : Int64) (s39 : zS) => zrc s39 (some a0) 4 (fun a44 => zcl C 205 [.ref a44, .int (x1 - (1 : Int32))] Y s39 (zqL (fun v41 s42 => j27 (p3 + (p38 * v41)) s42)))) (fun (j40 : Int64 → zS → Prop) => ((¬ (p4 - p4 / (2 : Int32) * (2 : Int32)) = 0) → j40 (-v23) s32) ∧ (((p4 - p4 / (2 : Int32) * (2 : Int32)) = 0) → j40 v23 s32)))))))))))))) n (0 : Int64) (0 : Int32) σ) ∧ ((x1 = (1 : Int32)) → zgR σ (some a0) 4 16 (fun v50 => zcl C 203 [.int (1 : Int32), .int (0 : Int32), .int (0 : Int32)] Y σ (zqI (fun v56 s57 => zaL s57 v50 v56 (fun v65 => Q (some (.long v65)) s57)))))) ∧ ((x1 = 0) → Q (some (.long (1 : Int64))) σ))
set_option maxHeartbeats 4000000 in
theorem wk205 {l : Launch} {g : zG} {d : Nat} {C : zO} (hG : zGk g) (hC : zSound l g d C) {args : List Value} {Q : zQ} {Y : zY} {σ : zS} (hw : zb205 (zpg g) C args Q Y σ) : zMet l g (d + 1) (⟨"PackingDuelModel", "determinant", "(I)J"⟩, Cond.code ⟨"PackingDuelModel", "determinant", "(I)J"⟩ prog_28_method_36_code 7 (Option.some FieldType.long)) args σ Q Y := by
  obtain ⟨a0, x1, rfl, hw⟩ := hw
  refine zof hG (by decide +kernel) [false, false] ⟨rfl, rfl, trivial⟩ (Nat.le_of_ble_eq_true rfl) (ls := [some (va_rf (some a0)), some (.int x1), none, none, none, none, none]) rfl ?_
  intro X hX hR hTb hd1 hd2 hl hg hnm
  subst hl
  subst hg
  have hd : zDep X d := ⟨hd1, hd2⟩
  refine z_iload_n hX dX3_determinant_0 rfl (i := 1) rfl ?_
  refine z_if_ne hX dX3_determinant_1 (tgt := 6) rfl (fun c1 => ?_) (fun c1 => ?_)
  · have hw := hw.1 c1
    refine z_iload_n hX dX3_determinant_6 rfl (i := 1) rfl ?_
    refine z_iconst hX (v := (1 : Int32)) dX3_determinant_7 (by decide) ?_
    refine z_icmp_ne hX dX3_determinant_8 (tgt := 23) rfl (fun c2 => ?_) (fun c2 => ?_)
    · have hw := hw.1 c2
      refine z_lconst hX (v := (0 : Int64)) dX3_determinant_23 (by decide) ?_
      refine z_lstore_n hX dX3_determinant_24 rfl (i := 2) (Nat.le_of_ble_eq_true rfl) rfl (ls2 := [some (va_rf (some a0)), some (.int x1), some (.long (0 : Int64)), none, none, none, none]) rfl ?_
      refine z_iconst hX (v := (0 : Int32)) dX3_determinant_25 (by decide) ?_
      refine z_istore hX dX3_determinant_26 (i := 4) (Nat.le_of_ble_eq_true rfl) trivial (ls2 := [some (va_rf (some a0)), some (.int x1), some (.long (0 : Int64)), none, some (.int (0 : Int32)), none, none]) rfl ?_
      obtain ⟨n49, hw⟩ := hw
      refine zIt_w (P := fun (j : Int64 → Int32 → zS → Prop) => ∀ (p3 : Int64) (p4 : Int32) (s5 : zS), j p3 p4 s5 → zW X s5 28 [some (va_rf (some a0)), some (.int x1), some (.long p3), none, some (.int p4), none, none] []) (fun _ _ _ h => h.elim) (fun rec6 hrec6 p3 p4 s5 hw => ?_) n49 _ _ _ hw
      refine z_iload hX dX3_determinant_28 (i := 4) rfl ?_
      refine z_iload_n hX dX3_determinant_30 rfl (i := 1) rfl ?_
      refine z_icmp_ge hX dX3_determinant_31 (tgt := 94) rfl (fun c7 => ?_) (fun c7 => ?_)
      · have hw := hw.1 c7
        refine z_lload_n hX dX3_determinant_94 rfl (i := 2) rfl ?_
        exact z_lreturn hX hR dX3_determinant_95 hw
      · have hw := hw.2 c7
        refine z_aload_n hX dX3_determinant_34 rfl (i := 0) rfl ?_
        obtain ⟨a9, f10, v8, r11, m12, e13, hw⟩ := hw
        refine z_get hX zc4 (k := 16) dX3_determinant_35 (Nat.le_of_ble_eq_true rfl) (zlk hX q2485) r11 m12 e13 ?_
        refine z_iload_n hX dX3_determinant_38 rfl (i := 1) rfl ?_
        refine z_iconst hX (v := (0 : Int32)) dX3_determinant_39 (by decide) ?_
        refine z_iload hX dX3_determinant_40 (i := 4) rfl ?_
        refine z_invS hX hd dX3_determinant_42 (hC 203 _ zm203 _ _ _ _ hw) q2778 q2779 zh7 q2780 q136 zn203 rfl (Nat.le_of_ble_eq_true rfl) (st := [va_rf v8]) rfl (zcs8 (Nat.le_of_ble_eq_true rfl)) rfl (zkI (fun v14 s15 hw => ?_)) (zout hX hR hTb)
        obtain ⟨a17, n18, f19, r20, m21, i22, hw⟩ := hw
        refine z_lald hX dX3_determinant_45 r20 m21 i22 ?_
        revert hw
        generalize f19 (Int32.toNatClampNeg v14) = v23
        intro hw
        refine z_lstore hX dX3_determinant_46 (i := 5) (Nat.le_of_ble_eq_true rfl) rfl (ls2 := [some (va_rf (some a0)), some (.int x1), some (.long p3), none, some (.int p4), some (.long v23), none]) rfl ?_
        refine z_lload hX dX3_determinant_48 (i := 5) rfl ?_
        refine z_lconst hX (v := (0 : Int64)) dX3_determinant_50 (by decide) ?_
        refine z_lcmp hX dX3_determinant_51 ?_
        refine zJ_w (P := fun (j : Int64 → zS → Prop) => ∀ (p25 : Int64) (s26 : zS), j p25 s26 → zW X s26 88 [some (va_rf (some a0)), some (.int x1), some (.long p25), none, some (.int p4), none, none] []) hw (fun p25 s26 hw => ?_) (fun j27 hj27 hw => ?_)
        · obtain ⟨v28, e29⟩ : ∃ y : Int32, y = p4 + (1 : Int32) := ⟨_, rfl⟩
          refine z_iinc hX dX3_determinant_88 (i := 4) (v := v28) rfl (by rw [e29]; rfl) (Nat.le_of_ble_eq_true rfl) trivial (ls2 := [some (va_rf (some a0)), some (.int x1), some (.long p25), none, some (.int v28), none, none]) rfl ?_
          have hw := hw v28 e29
          refine z_goto hX dX3_determinant_91 (tgt := 28) rfl ?_
          exact hrec6 _ _ _ hw
        · refine z_if_eq hX dX3_determinant_52 (tgt := 88) rfl (fun c30 => ?_) (fun c30 => ?_)
          · have hw := hw.1 c30
            refine z_sub (ls' := [some (va_rf (some a0)), some (.int x1), some (.long p3), none, some (.int p4), none, none]) (zsS (zsS (zsS (zsN (zsS (zsN (zsN (zs0)))))))) ?_
            exact hj27 _ _ hw
          · have hw := hw.2 c30
            refine z_aload_n hX dX3_determinant_55 rfl (i := 0) rfl ?_
            refine z_iload_n hX dX3_determinant_56 rfl (i := 1) rfl ?_
            refine z_iload hX dX3_determinant_57 (i := 4) rfl ?_
            obtain ⟨a34, f35, r36, m37, hw⟩ := hw
            refine z_invV hX hd r36 (ci := 4) rfl rfl m37 dX3_determinant_59 (hC 206 _ zm206 _ _ _ _ hw) q2789 q2791 qs76 zh7 q2792 q136 zn206 rfl (Nat.le_of_ble_eq_true rfl) (st := []) rfl (zcs8 (Nat.le_of_ble_eq_true rfl)) rfl (zkV (fun s32 hw => ?_)) (zout hX hR hTb)
            refine z_lload_n hX dX3_determinant_62 rfl (i := 2) rfl ?_
            refine z_iload hX dX3_determinant_63 (i := 4) rfl ?_
            refine z_iconst hX (v := (2 : Int32)) dX3_determinant_65 (by decide) ?_
            refine z_irem hX dX3_determinant_66 hw.1 ?_
            have hw := hw.2
            refine zJ_w (P := fun (j : Int64 → zS → Prop) => ∀ (p38 : Int64) (s39 : zS), j p38 s39 → zW X s39 78 [some (va_rf (some a0)), some (.int x1), none, none, some (.int p4), none, none] [.long p38, .long p3]) hw (fun p38 s39 hw => ?_) (fun j40 hj40 hw => ?_)
            · refine z_aload_n hX dX3_determinant_78 rfl (i := 0) rfl ?_
              refine z_iload_n hX dX3_determinant_79 rfl (i := 1) rfl ?_
              refine z_iconst hX (v := (1 : Int32)) dX3_determinant_80 (by decide) ?_
              refine z_isub hX dX3_determinant_81 ?_
              obtain ⟨a44, f45, r46, m47, hw⟩ := hw
              refine z_invV hX hd r46 (ci := 4) rfl rfl m47 dX3_determinant_82 (hC 205 _ zm205 _ _ _ _ hw) q2785 q2787 qs75 zh7 q2788 q136 zn205 rfl (Nat.le_of_ble_eq_true rfl) (st := [.long p38, .long p3]) rfl (zcs8 (Nat.le_of_ble_eq_true rfl)) rfl (zkL (fun v41 s42 hw => ?_)) (zout hX hR hTb)
              refine z_lmul hX dX3_determinant_85 ?_
              refine z_ladd hX dX3_determinant_86 ?_
              refine z_lstore_n hX dX3_determinant_87 rfl (i := 2) (Nat.le_of_ble_eq_true rfl) rfl (ls2 := [some (va_rf (some a0)), some (.int x1), some (.long (p3 + (p38 * v41))), none, some (.int p4), none, none]) rfl ?_
              exact hj27 _ _ hw
            · refine z_if_ne hX dX3_determinant_67 (tgt := 75) rfl (fun c48 => ?_) (fun c48 => ?_)
              · have hw := hw.1 c48
                refine z_lload hX dX3_determinant_75 (i := 5) rfl ?_
                refine z_lneg hX dX3_determinant_77 ?_
                refine z_sub (ls' := [some (va_rf (some a0)), some (.int x1), none, none, some (.int p4), none, none]) (zsS (zsS (zsN (zsN (zsS (zsN (zsN (zs0)))))))) ?_
                exact hj40 _ _ hw
              · have hw := hw.2 c48
                refine z_lload hX dX3_determinant_70 (i := 5) rfl ?_
                refine z_goto hX dX3_determinant_72 (tgt := 78) rfl ?_
                refine z_sub (ls' := [some (va_rf (some a0)), some (.int x1), none, none, some (.int p4), none, none]) (zsS (zsS (zsN (zsN (zsS (zsN (zsN (zs0)))))))) ?_
                exact hj40 _ _ hw
    · have hw := hw.2 c2
      refine z_aload_n hX dX3_determinant_11 rfl (i := 0) rfl ?_
      obtain ⟨a51, f52, v50, r53, m54, e55, hw⟩ := hw
      refine z_get hX zc4 (k := 16) dX3_determinant_12 (Nat.le_of_ble_eq_true rfl) (zlk hX q2485) r53 m54 e55 ?_
      refine z_iconst hX (v := (1 : Int32)) dX3_determinant_15 (by decide) ?_
      refine z_iconst hX (v := (0 : Int32)) dX3_determinant_16 (by decide) ?_
      refine z_iconst hX (v := (0 : Int32)) dX3_determinant_17 (by decide) ?_
      refine z_invS hX hd dX3_determinant_18 (hC 203 _ zm203 _ _ _ _ hw) q2778 q2779 zh7 q2780 q136 zn203 rfl (Nat.le_of_ble_eq_true rfl) (st := [va_rf v50]) rfl (zcs8 (Nat.le_of_ble_eq_true rfl)) rfl (zkI (fun v56 s57 hw => ?_)) (zout hX hR hTb)
      obtain ⟨a59, n60, f61, r62, m63, i64, hw⟩ := hw
      refine z_lald hX dX3_determinant_21 r62 m63 i64 ?_
      revert hw
      generalize f61 (Int32.toNatClampNeg v56) = v65
      intro hw
      exact z_lreturn hX hR dX3_determinant_22 hw
  · have hw := hw.2 c1
    refine z_lconst hX (v := (1 : Int64)) dX3_determinant_4 (by decide) ?_
    exact z_lreturn hX hR dX3_determinant_5 hw
abbrev cX3_layMinor : ByteArray := prog_28_method_37_code
def yX3_layMinor : MethodName := ⟨RX3, "layMinor", "(II)V"⟩
def dkwX3_layMinor_2 : List UInt8 := [21, 5, 184, 0, 174, 47, 80, 132, 4, 1, 132, 5, 1, 167, 255, 210, 132, 3, 1, 167, 255, 193, 177]
abbrev dktX3_layMinor_2 : List UInt8 := dkwX3_layMinor_2 ++ []
def dkwX3_layMinor_1 : List UInt8 := [159, 0, 34, 42, 180, 0, 46, 27, 4, 100, 29, 4, 100, 21, 4, 184, 0, 174, 42, 180, 0, 46, 27, 29]
abbrev dktX3_layMinor_1 : List UInt8 := dkwX3_layMinor_1 ++ dktX3_layMinor_2
def dkwX3_layMinor_0 : List UInt8 := [4, 62, 29, 27, 162, 0, 64, 3, 54, 4, 3, 54, 5, 21, 5, 27, 162, 0, 46, 21, 5, 28]
abbrev dktX3_layMinor_0 : List UInt8 := dkwX3_layMinor_0 ++ dktX3_layMinor_1
theorem dksX3_layMinor_0 : cX3_layMinor.data.toList.drop 0 = dktX3_layMinor_0 := by decide +kernel
theorem dksX3_layMinor_1 : cX3_layMinor.data.toList.drop 22 = dktX3_layMinor_1 := dk_seg dksX3_layMinor_0 22 rfl rfl
theorem dksX3_layMinor_2 : cX3_layMinor.data.toList.drop 46 = dktX3_layMinor_2 := dk_seg dksX3_layMinor_1 24 rfl rfl
theorem dX3_layMinor_0 : decode cX3_layMinor 0 = .ok (.iconst 1, 1) := dk_4 (dk_at dksX3_layMinor_0 0 rfl rfl)
theorem dX3_layMinor_1 : decode cX3_layMinor 1 = .ok (.istore_n 3, 1) := dk_62 (dk_at dksX3_layMinor_0 1 rfl rfl)
theorem dX3_layMinor_2 : decode cX3_layMinor 2 = .ok (.iload_n 3, 1) := dk_29 (dk_at dksX3_layMinor_0 2 rfl rfl)
theorem dX3_layMinor_3 : decode cX3_layMinor 3 = .ok (.iload_n 1, 1) := dk_27 (dk_at dksX3_layMinor_0 3 rfl rfl)
theorem dX3_layMinor_4 : decode cX3_layMinor 4 = .ok (.if_icmp .ge 64, 3) := dk_162 0 64 (dk_at dksX3_layMinor_0 4 rfl rfl)
theorem dX3_layMinor_7 : decode cX3_layMinor 7 = .ok (.iconst 0, 1) := dk_3 (dk_at dksX3_layMinor_0 7 rfl rfl)
theorem dX3_layMinor_8 : decode cX3_layMinor 8 = .ok (.istore 4, 2) := dk_54 4 (dk_at dksX3_layMinor_0 8 rfl rfl)
theorem dX3_layMinor_10 : decode cX3_layMinor 10 = .ok (.iconst 0, 1) := dk_3 (dk_at dksX3_layMinor_0 10 rfl rfl)
theorem dX3_layMinor_11 : decode cX3_layMinor 11 = .ok (.istore 5, 2) := dk_54 5 (dk_at dksX3_layMinor_0 11 rfl rfl)
theorem dX3_layMinor_13 : decode cX3_layMinor 13 = .ok (.iload 5, 2) := dk_21 5 (dk_at dksX3_layMinor_0 13 rfl rfl)
theorem dX3_layMinor_15 : decode cX3_layMinor 15 = .ok (.iload_n 1, 1) := dk_27 (dk_at dksX3_layMinor_0 15 rfl rfl)
theorem dX3_layMinor_16 : decode cX3_layMinor 16 = .ok (.if_icmp .ge 46, 3) := dk_162 0 46 (dk_at dksX3_layMinor_0 16 rfl rfl)
theorem dX3_layMinor_19 : decode cX3_layMinor 19 = .ok (.iload 5, 2) := dk_21 5 (dk_at dksX3_layMinor_0 19 rfl rfl)
theorem dX3_layMinor_21 : decode cX3_layMinor 21 = .ok (.iload_n 2, 1) := dk_28 (dk_at dksX3_layMinor_0 21 rfl rfl)
theorem dX3_layMinor_22 : decode cX3_layMinor 22 = .ok (.if_icmp .eq 34, 3) := dk_159 0 34 (dk_at dksX3_layMinor_1 0 rfl rfl)
theorem dX3_layMinor_25 : decode cX3_layMinor 25 = .ok (.aload_n 0, 1) := dk_42 (dk_at dksX3_layMinor_1 3 rfl rfl)
theorem dX3_layMinor_26 : decode cX3_layMinor 26 = .ok (.getfield 46, 3) := dk_180 0 46 (dk_at dksX3_layMinor_1 4 rfl rfl)
theorem dX3_layMinor_29 : decode cX3_layMinor 29 = .ok (.iload_n 1, 1) := dk_27 (dk_at dksX3_layMinor_1 7 rfl rfl)
theorem dX3_layMinor_30 : decode cX3_layMinor 30 = .ok (.iconst 1, 1) := dk_4 (dk_at dksX3_layMinor_1 8 rfl rfl)
theorem dX3_layMinor_31 : decode cX3_layMinor 31 = .ok (.isub, 1) := dk_100 (dk_at dksX3_layMinor_1 9 rfl rfl)
theorem dX3_layMinor_32 : decode cX3_layMinor 32 = .ok (.iload_n 3, 1) := dk_29 (dk_at dksX3_layMinor_1 10 rfl rfl)
theorem dX3_layMinor_33 : decode cX3_layMinor 33 = .ok (.iconst 1, 1) := dk_4 (dk_at dksX3_layMinor_1 11 rfl rfl)
theorem dX3_layMinor_34 : decode cX3_layMinor 34 = .ok (.isub, 1) := dk_100 (dk_at dksX3_layMinor_1 12 rfl rfl)
theorem dX3_layMinor_35 : decode cX3_layMinor 35 = .ok (.iload 4, 2) := dk_21 4 (dk_at dksX3_layMinor_1 13 rfl rfl)
theorem dX3_layMinor_37 : decode cX3_layMinor 37 = .ok (.invokestatic 174, 3) := dk_184 0 174 (dk_at dksX3_layMinor_1 15 rfl rfl)
theorem dX3_layMinor_40 : decode cX3_layMinor 40 = .ok (.aload_n 0, 1) := dk_42 (dk_at dksX3_layMinor_1 18 rfl rfl)
theorem dX3_layMinor_41 : decode cX3_layMinor 41 = .ok (.getfield 46, 3) := dk_180 0 46 (dk_at dksX3_layMinor_1 19 rfl rfl)
theorem dX3_layMinor_44 : decode cX3_layMinor 44 = .ok (.iload_n 1, 1) := dk_27 (dk_at dksX3_layMinor_1 22 rfl rfl)
theorem dX3_layMinor_45 : decode cX3_layMinor 45 = .ok (.iload_n 3, 1) := dk_29 (dk_at dksX3_layMinor_1 23 rfl rfl)
theorem dX3_layMinor_46 : decode cX3_layMinor 46 = .ok (.iload 5, 2) := dk_21 5 (dk_at dksX3_layMinor_2 0 rfl rfl)
theorem dX3_layMinor_48 : decode cX3_layMinor 48 = .ok (.invokestatic 174, 3) := dk_184 0 174 (dk_at dksX3_layMinor_2 2 rfl rfl)
theorem dX3_layMinor_51 : decode cX3_layMinor 51 = .ok (.laload, 1) := dk_47 (dk_at dksX3_layMinor_2 5 rfl rfl)
theorem dX3_layMinor_52 : decode cX3_layMinor 52 = .ok (.lastore, 1) := dk_80 (dk_at dksX3_layMinor_2 6 rfl rfl)
theorem dX3_layMinor_53 : decode cX3_layMinor 53 = .ok (.iinc 4 1, 3) := dk_132 4 1 (dk_at dksX3_layMinor_2 7 rfl rfl)
theorem dX3_layMinor_56 : decode cX3_layMinor 56 = .ok (.iinc 5 1, 3) := dk_132 5 1 (dk_at dksX3_layMinor_2 10 rfl rfl)
theorem dX3_layMinor_59 : decode cX3_layMinor 59 = .ok (.goto (-46), 3) := dk_167 255 210 (dk_at dksX3_layMinor_2 13 rfl rfl)
theorem dX3_layMinor_62 : decode cX3_layMinor 62 = .ok (.iinc 3 1, 3) := dk_132 3 1 (dk_at dksX3_layMinor_2 16 rfl rfl)
theorem dX3_layMinor_65 : decode cX3_layMinor 65 = .ok (.goto (-63), 3) := dk_167 255 193 (dk_at dksX3_layMinor_2 19 rfl rfl)
theorem dX3_layMinor_68 : decode cX3_layMinor 68 = .ok (.return_, 1) := dk_177 (dk_at dksX3_layMinor_2 22 rfl rfl)
/-- PackingDuelModel.layMinor(II)V -/
def zb206 (G : zPg) (C : zO) (args : List Value) (Q : zQ) (Y : zY) (σ : zS) : Prop := ∃ (a0 : Nat) (x1 : Int32) (x2 : Int32), args = [.ref a0, .int x1, .int x2] ∧ (∃ n, zIt (fun _ _ => False) (fun rec3 (p1 : Int32) (s2 : zS) => ((x1 ≤ p1) → Q none s2) ∧ ((¬ x1 ≤ p1) → ∃ n, zIt (fun _ _ _ => False) (fun rec8 (p5 : Int32) (p6 : Int32) (s7 : zS) => ((x1 ≤ p6) → (∀ v10 : Int32, v10 = p1 + (1 : Int32) → rec3 v10 s7)) ∧ ((¬ x1 ≤ p6) → zJ (fun (p12 : Int32) (s13 : zS) => (∀ v15 : Int32, v15 = p6 + (1 : Int32) → rec8 p12 v15 s13)) (fun (j14 : Int32 → zS → Prop) => ((p6 = x2) → j14 p5 s7) ∧ ((¬ p6 = x2) → zgR s7 (some a0) 4 16 (fun v18 => zcl C 203 [.int (x1 - (1 : Int32)), .int (p1 - (1 : Int32)), .int p5] Y s7 (zqI (fun v24 s25 => zgR s25 (some a0) 4 16 (fun v27 => zcl C 203 [.int x1, .int p1, .int p6] Y s25 (zqI (fun v33 s34 => zaL s34 v27 v33 (fun v42 => zsL s34 G.1 v18 v24 v42 (fun s51 => (∀ v53 : Int32, v53 = p5 + (1 : Int32) → j14 v53 s51))))))))))))) n (0 : Int32) (0 : Int32) s2)) n (1 : Int32) σ)
set_option maxHeartbeats 4000000 in
theorem wk206 {l : Launch} {g : zG} {d : Nat} {C : zO} (hG : zGk g) (hC : zSound l g d C) {args : List Value} {Q : zQ} {Y : zY} {σ : zS} (hw : zb206 (zpg g) C args Q Y σ) : zMet l g (d + 1) (⟨"PackingDuelModel", "layMinor", "(II)V"⟩, Cond.code ⟨"PackingDuelModel", "layMinor", "(II)V"⟩ prog_28_method_37_code 6 (Option.none : Option FieldType)) args σ Q Y := by
  obtain ⟨a0, x1, x2, rfl, hw⟩ := hw
  refine zof hG (by decide +kernel) [false, false, false] ⟨rfl, rfl, rfl, trivial⟩ (Nat.le_of_ble_eq_true rfl) (ls := [some (va_rf (some a0)), some (.int x1), some (.int x2), none, none, none]) rfl ?_
  intro X hX hR hTb hd1 hd2 hl hg hnm
  subst hl
  subst hg
  have hd : zDep X d := ⟨hd1, hd2⟩
  refine z_iconst hX (v := (1 : Int32)) dX3_layMinor_0 (by decide) ?_
  refine z_istore_n hX dX3_layMinor_1 rfl (i := 3) (Nat.le_of_ble_eq_true rfl) rfl (ls2 := [some (va_rf (some a0)), some (.int x1), some (.int x2), some (.int (1 : Int32)), none, none]) rfl ?_
  obtain ⟨n56, hw⟩ := hw
  refine zIt_w (P := fun (j : Int32 → zS → Prop) => ∀ (p1 : Int32) (s2 : zS), j p1 s2 → zW X s2 2 [some (va_rf (some a0)), some (.int x1), some (.int x2), some (.int p1), none, none] []) (fun _ _ h => h.elim) (fun rec3 hrec3 p1 s2 hw => ?_) n56 _ _ hw
  refine z_iload_n hX dX3_layMinor_2 rfl (i := 3) rfl ?_
  refine z_iload_n hX dX3_layMinor_3 rfl (i := 1) rfl ?_
  refine z_icmp_ge hX dX3_layMinor_4 (tgt := 68) rfl (fun c4 => ?_) (fun c4 => ?_)
  · have hw := hw.1 c4
    exact z_return hX hR dX3_layMinor_68 hw
  · have hw := hw.2 c4
    refine z_iconst hX (v := (0 : Int32)) dX3_layMinor_7 (by decide) ?_
    refine z_istore hX dX3_layMinor_8 (i := 4) (Nat.le_of_ble_eq_true rfl) rfl (ls2 := [some (va_rf (some a0)), some (.int x1), some (.int x2), some (.int p1), some (.int (0 : Int32)), none]) rfl ?_
    refine z_iconst hX (v := (0 : Int32)) dX3_layMinor_10 (by decide) ?_
    refine z_istore hX dX3_layMinor_11 (i := 5) (Nat.le_of_ble_eq_true rfl) rfl (ls2 := [some (va_rf (some a0)), some (.int x1), some (.int x2), some (.int p1), some (.int (0 : Int32)), some (.int (0 : Int32))]) rfl ?_
    obtain ⟨n55, hw⟩ := hw
    refine zIt_w (P := fun (j : Int32 → Int32 → zS → Prop) => ∀ (p5 : Int32) (p6 : Int32) (s7 : zS), j p5 p6 s7 → zW X s7 13 [some (va_rf (some a0)), some (.int x1), some (.int x2), some (.int p1), some (.int p5), some (.int p6)] []) (fun _ _ _ h => h.elim) (fun rec8 hrec8 p5 p6 s7 hw => ?_) n55 _ _ _ hw
    refine z_iload hX dX3_layMinor_13 (i := 5) rfl ?_
    refine z_iload_n hX dX3_layMinor_15 rfl (i := 1) rfl ?_
    refine z_icmp_ge hX dX3_layMinor_16 (tgt := 62) rfl (fun c9 => ?_) (fun c9 => ?_)
    · have hw := hw.1 c9
      obtain ⟨v10, e11⟩ : ∃ y : Int32, y = p1 + (1 : Int32) := ⟨_, rfl⟩
      refine z_iinc hX dX3_layMinor_62 (i := 3) (v := v10) rfl (by rw [e11]; rfl) (Nat.le_of_ble_eq_true rfl) rfl (ls2 := [some (va_rf (some a0)), some (.int x1), some (.int x2), some (.int v10), some (.int p5), some (.int p6)]) rfl ?_
      have hw := hw v10 e11
      refine z_goto hX dX3_layMinor_65 (tgt := 2) rfl ?_
      refine z_sub (ls' := [some (va_rf (some a0)), some (.int x1), some (.int x2), some (.int v10), none, none]) (zsS (zsS (zsS (zsS (zsN (zsN (zs0))))))) ?_
      exact hrec3 _ _ hw
    · have hw := hw.2 c9
      refine z_iload hX dX3_layMinor_19 (i := 5) rfl ?_
      refine z_iload_n hX dX3_layMinor_21 rfl (i := 2) rfl ?_
      refine zJ_w (P := fun (j : Int32 → zS → Prop) => ∀ (p12 : Int32) (s13 : zS), j p12 s13 → zW X s13 56 [some (va_rf (some a0)), some (.int x1), some (.int x2), some (.int p1), some (.int p12), some (.int p6)] []) hw (fun p12 s13 hw => ?_) (fun j14 hj14 hw => ?_)
      · obtain ⟨v15, e16⟩ : ∃ y : Int32, y = p6 + (1 : Int32) := ⟨_, rfl⟩
        refine z_iinc hX dX3_layMinor_56 (i := 5) (v := v15) rfl (by rw [e16]; rfl) (Nat.le_of_ble_eq_true rfl) rfl (ls2 := [some (va_rf (some a0)), some (.int x1), some (.int x2), some (.int p1), some (.int p12), some (.int v15)]) rfl ?_
        have hw := hw v15 e16
        refine z_goto hX dX3_layMinor_59 (tgt := 13) rfl ?_
        exact hrec8 _ _ _ hw
      · refine z_icmp_eq hX dX3_layMinor_22 (tgt := 56) rfl (fun c17 => ?_) (fun c17 => ?_)
        · have hw := hw.1 c17
          exact hj14 _ _ hw
        · have hw := hw.2 c17
          refine z_aload_n hX dX3_layMinor_25 rfl (i := 0) rfl ?_
          obtain ⟨a19, f20, v18, r21, m22, e23, hw⟩ := hw
          refine z_get hX zc4 (k := 16) dX3_layMinor_26 (Nat.le_of_ble_eq_true rfl) (zlk hX q2485) r21 m22 e23 ?_
          refine z_iload_n hX dX3_layMinor_29 rfl (i := 1) rfl ?_
          refine z_iconst hX (v := (1 : Int32)) dX3_layMinor_30 (by decide) ?_
          refine z_isub hX dX3_layMinor_31 ?_
          refine z_iload_n hX dX3_layMinor_32 rfl (i := 3) rfl ?_
          refine z_iconst hX (v := (1 : Int32)) dX3_layMinor_33 (by decide) ?_
          refine z_isub hX dX3_layMinor_34 ?_
          refine z_iload hX dX3_layMinor_35 (i := 4) rfl ?_
          refine z_invS hX hd dX3_layMinor_37 (hC 203 _ zm203 _ _ _ _ hw) q2778 q2779 zh7 q2780 q136 zn203 rfl (Nat.le_of_ble_eq_true rfl) (st := [va_rf v18]) rfl (zcs8 (Nat.le_of_ble_eq_true rfl)) rfl (zkI (fun v24 s25 hw => ?_)) (zout hX hR hTb)
          refine z_aload_n hX dX3_layMinor_40 rfl (i := 0) rfl ?_
          obtain ⟨a28, f29, v27, r30, m31, e32, hw⟩ := hw
          refine z_get hX zc4 (k := 16) dX3_layMinor_41 (Nat.le_of_ble_eq_true rfl) (zlk hX q2485) r30 m31 e32 ?_
          refine z_iload_n hX dX3_layMinor_44 rfl (i := 1) rfl ?_
          refine z_iload_n hX dX3_layMinor_45 rfl (i := 3) rfl ?_
          refine z_iload hX dX3_layMinor_46 (i := 5) rfl ?_
          refine z_invS hX hd dX3_layMinor_48 (hC 203 _ zm203 _ _ _ _ hw) q2778 q2779 zh7 q2780 q136 zn203 rfl (Nat.le_of_ble_eq_true rfl) (st := [va_rf v27, .int v24, va_rf v18]) rfl (zcs8 (Nat.le_of_ble_eq_true rfl)) rfl (zkI (fun v33 s34 hw => ?_)) (zout hX hR hTb)
          obtain ⟨a36, n37, f38, r39, m40, i41, hw⟩ := hw
          refine z_lald hX dX3_layMinor_51 r39 m40 i41 ?_
          revert hw
          generalize f38 (Int32.toNatClampNeg v33) = v42
          intro hw
          obtain ⟨a44, n45, f46, r47, g48, m49, i50, hw⟩ := hw
          refine z_last hX dX3_layMinor_52 r47 g48 m49 i50 (z_nm (fun s51 e52 => ?_))
          have hw := hw s51 e52
          obtain ⟨v53, e54⟩ : ∃ y : Int32, y = p5 + (1 : Int32) := ⟨_, rfl⟩
          refine z_iinc hX dX3_layMinor_53 (i := 4) (v := v53) rfl (by rw [e54]; rfl) (Nat.le_of_ble_eq_true rfl) rfl (ls2 := [some (va_rf (some a0)), some (.int x1), some (.int x2), some (.int p1), some (.int v53), some (.int p6)]) rfl ?_
          have hw := hw v53 e54
          exact hj14 _ _ hw
abbrev cX3_areNegative : ByteArray := prog_28_method_39_code
def yX3_areNegative : MethodName := ⟨RX3, "areNegative", "([JJ)Z"⟩
def dkwX3_areNegative_2 : List UInt8 := [159, 0, 5, 4, 172, 132, 4, 1, 167, 255, 205, 3, 172]
abbrev dktX3_areNegative_2 : List UInt8 := dkwX3_areNegative_2 ++ []
def dkwX3_areNegative_1 : List UInt8 := [47, 9, 148, 158, 0, 7, 4, 167, 0, 4, 3, 32, 9, 148, 158, 0, 7, 4, 167, 0, 4, 3]
abbrev dktX3_areNegative_1 : List UInt8 := dkwX3_areNegative_1 ++ dktX3_areNegative_2
def dkwX3_areNegative_0 : List UInt8 := [3, 54, 4, 21, 4, 42, 180, 0, 186, 162, 0, 48, 43, 21, 4, 47, 9, 148, 153, 0, 33, 43, 21, 4]
abbrev dktX3_areNegative_0 : List UInt8 := dkwX3_areNegative_0 ++ dktX3_areNegative_1
theorem dksX3_areNegative_0 : cX3_areNegative.data.toList.drop 0 = dktX3_areNegative_0 := by decide +kernel
theorem dksX3_areNegative_1 : cX3_areNegative.data.toList.drop 24 = dktX3_areNegative_1 := dk_seg dksX3_areNegative_0 24 rfl rfl
theorem dksX3_areNegative_2 : cX3_areNegative.data.toList.drop 46 = dktX3_areNegative_2 := dk_seg dksX3_areNegative_1 22 rfl rfl
theorem dX3_areNegative_0 : decode cX3_areNegative 0 = .ok (.iconst 0, 1) := dk_3 (dk_at dksX3_areNegative_0 0 rfl rfl)
theorem dX3_areNegative_1 : decode cX3_areNegative 1 = .ok (.istore 4, 2) := dk_54 4 (dk_at dksX3_areNegative_0 1 rfl rfl)
theorem dX3_areNegative_3 : decode cX3_areNegative 3 = .ok (.iload 4, 2) := dk_21 4 (dk_at dksX3_areNegative_0 3 rfl rfl)
theorem dX3_areNegative_5 : decode cX3_areNegative 5 = .ok (.aload_n 0, 1) := dk_42 (dk_at dksX3_areNegative_0 5 rfl rfl)
theorem dX3_areNegative_6 : decode cX3_areNegative 6 = .ok (.getfield 186, 3) := dk_180 0 186 (dk_at dksX3_areNegative_0 6 rfl rfl)
theorem dX3_areNegative_9 : decode cX3_areNegative 9 = .ok (.if_icmp .ge 48, 3) := dk_162 0 48 (dk_at dksX3_areNegative_0 9 rfl rfl)
theorem dX3_areNegative_12 : decode cX3_areNegative 12 = .ok (.aload_n 1, 1) := dk_43 (dk_at dksX3_areNegative_0 12 rfl rfl)
theorem dX3_areNegative_13 : decode cX3_areNegative 13 = .ok (.iload 4, 2) := dk_21 4 (dk_at dksX3_areNegative_0 13 rfl rfl)
theorem dX3_areNegative_15 : decode cX3_areNegative 15 = .ok (.laload, 1) := dk_47 (dk_at dksX3_areNegative_0 15 rfl rfl)
theorem dX3_areNegative_16 : decode cX3_areNegative 16 = .ok (.lconst 0, 1) := dk_9 (dk_at dksX3_areNegative_0 16 rfl rfl)
theorem dX3_areNegative_17 : decode cX3_areNegative 17 = .ok (.lcmp, 1) := dk_148 (dk_at dksX3_areNegative_0 17 rfl rfl)
theorem dX3_areNegative_18 : decode cX3_areNegative 18 = .ok (.ifCond .eq 33, 3) := dk_153 0 33 (dk_at dksX3_areNegative_0 18 rfl rfl)
theorem dX3_areNegative_21 : decode cX3_areNegative 21 = .ok (.aload_n 1, 1) := dk_43 (dk_at dksX3_areNegative_0 21 rfl rfl)
theorem dX3_areNegative_22 : decode cX3_areNegative 22 = .ok (.iload 4, 2) := dk_21 4 (dk_at dksX3_areNegative_0 22 rfl rfl)
theorem dX3_areNegative_24 : decode cX3_areNegative 24 = .ok (.laload, 1) := dk_47 (dk_at dksX3_areNegative_1 0 rfl rfl)
theorem dX3_areNegative_25 : decode cX3_areNegative 25 = .ok (.lconst 0, 1) := dk_9 (dk_at dksX3_areNegative_1 1 rfl rfl)
theorem dX3_areNegative_26 : decode cX3_areNegative 26 = .ok (.lcmp, 1) := dk_148 (dk_at dksX3_areNegative_1 2 rfl rfl)
theorem dX3_areNegative_27 : decode cX3_areNegative 27 = .ok (.ifCond .le 7, 3) := dk_158 0 7 (dk_at dksX3_areNegative_1 3 rfl rfl)
theorem dX3_areNegative_30 : decode cX3_areNegative 30 = .ok (.iconst 1, 1) := dk_4 (dk_at dksX3_areNegative_1 6 rfl rfl)
theorem dX3_areNegative_31 : decode cX3_areNegative 31 = .ok (.goto 4, 3) := dk_167 0 4 (dk_at dksX3_areNegative_1 7 rfl rfl)
theorem dX3_areNegative_34 : decode cX3_areNegative 34 = .ok (.iconst 0, 1) := dk_3 (dk_at dksX3_areNegative_1 10 rfl rfl)
theorem dX3_areNegative_35 : decode cX3_areNegative 35 = .ok (.lload_n 2, 1) := dk_32 (dk_at dksX3_areNegative_1 11 rfl rfl)
theorem dX3_areNegative_36 : decode cX3_areNegative 36 = .ok (.lconst 0, 1) := dk_9 (dk_at dksX3_areNegative_1 12 rfl rfl)
theorem dX3_areNegative_37 : decode cX3_areNegative 37 = .ok (.lcmp, 1) := dk_148 (dk_at dksX3_areNegative_1 13 rfl rfl)
theorem dX3_areNegative_38 : decode cX3_areNegative 38 = .ok (.ifCond .le 7, 3) := dk_158 0 7 (dk_at dksX3_areNegative_1 14 rfl rfl)
theorem dX3_areNegative_41 : decode cX3_areNegative 41 = .ok (.iconst 1, 1) := dk_4 (dk_at dksX3_areNegative_1 17 rfl rfl)
theorem dX3_areNegative_42 : decode cX3_areNegative 42 = .ok (.goto 4, 3) := dk_167 0 4 (dk_at dksX3_areNegative_1 18 rfl rfl)
theorem dX3_areNegative_45 : decode cX3_areNegative 45 = .ok (.iconst 0, 1) := dk_3 (dk_at dksX3_areNegative_1 21 rfl rfl)
theorem dX3_areNegative_46 : decode cX3_areNegative 46 = .ok (.if_icmp .eq 5, 3) := dk_159 0 5 (dk_at dksX3_areNegative_2 0 rfl rfl)
theorem dX3_areNegative_49 : decode cX3_areNegative 49 = .ok (.iconst 1, 1) := dk_4 (dk_at dksX3_areNegative_2 3 rfl rfl)
theorem dX3_areNegative_50 : decode cX3_areNegative 50 = .ok (.ireturn, 1) := dk_172 (dk_at dksX3_areNegative_2 4 rfl rfl)
theorem dX3_areNegative_51 : decode cX3_areNegative 51 = .ok (.iinc 4 1, 3) := dk_132 4 1 (dk_at dksX3_areNegative_2 5 rfl rfl)
theorem dX3_areNegative_54 : decode cX3_areNegative 54 = .ok (.goto (-51), 3) := dk_167 255 205 (dk_at dksX3_areNegative_2 8 rfl rfl)
theorem dX3_areNegative_57 : decode cX3_areNegative 57 = .ok (.iconst 0, 1) := dk_3 (dk_at dksX3_areNegative_2 11 rfl rfl)
theorem dX3_areNegative_58 : decode cX3_areNegative 58 = .ok (.ireturn, 1) := dk_172 (dk_at dksX3_areNegative_2 12 rfl rfl)
/-- PackingDuelModel.areNegative([JJ)Z -/
def zb207 (G : zPg) (C : zO) (args : List Value) (Q : zQ) (Y : zY) (σ : zS) : Prop := ∃ (a0 : Nat) (x1 : Option Nat) (x2 : Int64), args = [.ref a0, va_rf x1, .long x2] ∧ (∃ n, zIt (fun _ _ => False) (fun rec3 (p1 : Int32) (s2 : zS) => zgI s2 (some a0) 4 15 (fun v4 => ((v4 ≤ p1) → zbool (0 : Int32) ∧ Q (some (.int (0 : Int32))) s2) ∧ ((¬ v4 ≤ p1) → zaL s2 x1 p1 (fun v17 => zJ (fun  (s19 : zS) => (∀ v21 : Int32, v21 = p1 + (1 : Int32) → rec3 v21 s19)) (fun (j20 : zS → Prop) => (((lg_cmp v17 (0 : Int64)) = 0) → j20 s2) ∧ ((¬ (lg_cmp v17 (0 : Int64)) = 0) → zaL s2 x1 p1 (fun v30 => zJ (fun (p32 : Int32) (s33 : zS) => zJ (fun (p35 : Int32) (s36 : zS) => ((p32 = p35) → j20 s36) ∧ ((¬ p32 = p35) → zbool (1 : Int32) ∧ Q (some (.int (1 : Int32))) s36)) (fun (j37 : Int32 → zS → Prop) => (((lg_cmp x2 (0 : Int64)) ≤ 0) → j37 (0 : Int32) s33) ∧ ((¬ (lg_cmp x2 (0 : Int64)) ≤ 0) → j37 (1 : Int32) s33))) (fun (j34 : Int32 → zS → Prop) => (((lg_cmp v30 (0 : Int64)) ≤ 0) → j34 (0 : Int32) s2) ∧ ((¬ (lg_cmp v30 (0 : Int64)) ≤ 0) → j34 (1 : Int32) s2))))))))) n (0 : Int32) σ)
set_option maxHeartbeats 4000000 in
theorem wk207 {l : Launch} {g : zG} {d : Nat} {C : zO} (hG : zGk g) (hC : zSound l g d C) {args : List Value} {Q : zQ} {Y : zY} {σ : zS} (hw : zb207 (zpg g) C args Q Y σ) : zMet l g (d + 1) (⟨"PackingDuelModel", "areNegative", "([JJ)Z"⟩, Cond.code ⟨"PackingDuelModel", "areNegative", "([JJ)Z"⟩ prog_28_method_39_code 5 (Option.some FieldType.boolean)) args σ Q Y := by
  obtain ⟨a0, x1, x2, rfl, hw⟩ := hw
  refine zof hG (by decide +kernel) [false, false, true] ⟨rfl, (zc_rf _), rfl, trivial⟩ (Nat.le_of_ble_eq_true rfl) (ls := [some (va_rf (some a0)), some (va_rf x1), some (.long x2), none, none]) rfl ?_
  intro X hX hR hTb hd1 hd2 hl hg hnm
  subst hl
  subst hg
  have hd : zDep X d := ⟨hd1, hd2⟩
  refine z_iconst hX (v := (0 : Int32)) dX3_areNegative_0 (by decide) ?_
  refine z_istore hX dX3_areNegative_1 (i := 4) (Nat.le_of_ble_eq_true rfl) trivial (ls2 := [some (va_rf (some a0)), some (va_rf x1), some (.long x2), none, some (.int (0 : Int32))]) rfl ?_
  obtain ⟨n41, hw⟩ := hw
  refine zIt_w (P := fun (j : Int32 → zS → Prop) => ∀ (p1 : Int32) (s2 : zS), j p1 s2 → zW X s2 3 [some (va_rf (some a0)), some (va_rf x1), some (.long x2), none, some (.int p1)] []) (fun _ _ h => h.elim) (fun rec3 hrec3 p1 s2 hw => ?_) n41 _ _ hw
  refine z_iload hX dX3_areNegative_3 (i := 4) rfl ?_
  refine z_aload_n hX dX3_areNegative_5 rfl (i := 0) rfl ?_
  obtain ⟨a5, f6, v4, r7, m8, e9, hw⟩ := hw
  refine z_get hX zc4 (k := 15) dX3_areNegative_6 (Nat.le_of_ble_eq_true rfl) (zlk hX q2484) r7 m8 e9 ?_
  refine z_icmp_ge hX dX3_areNegative_9 (tgt := 57) rfl (fun c10 => ?_) (fun c10 => ?_)
  · have hw := hw.1 c10
    refine z_iconst hX (v := (0 : Int32)) dX3_areNegative_57 (by decide) ?_
    exact z_ireturn hX hR dX3_areNegative_58 (zn_z hw.1) hw.2
  · have hw := hw.2 c10
    refine z_aload_n hX dX3_areNegative_12 rfl (i := 1) rfl ?_
    refine z_iload hX dX3_areNegative_13 (i := 4) rfl ?_
    obtain ⟨a11, n12, f13, r14, m15, i16, hw⟩ := hw
    refine z_lald hX dX3_areNegative_15 r14 m15 i16 ?_
    revert hw
    generalize f13 (Int32.toNatClampNeg p1) = v17
    intro hw
    refine z_lconst hX (v := (0 : Int64)) dX3_areNegative_16 (by decide) ?_
    refine z_lcmp hX dX3_areNegative_17 ?_
    refine zJ_w (P := fun (j : zS → Prop) => ∀  (s19 : zS), j  s19 → zW X s19 51 [some (va_rf (some a0)), some (va_rf x1), some (.long x2), none, some (.int p1)] []) hw (fun  s19 hw => ?_) (fun j20 hj20 hw => ?_)
    · obtain ⟨v21, e22⟩ : ∃ y : Int32, y = p1 + (1 : Int32) := ⟨_, rfl⟩
      refine z_iinc hX dX3_areNegative_51 (i := 4) (v := v21) rfl (by rw [e22]; rfl) (Nat.le_of_ble_eq_true rfl) trivial (ls2 := [some (va_rf (some a0)), some (va_rf x1), some (.long x2), none, some (.int v21)]) rfl ?_
      have hw := hw v21 e22
      refine z_goto hX dX3_areNegative_54 (tgt := 3) rfl ?_
      exact hrec3 _ _ hw
    · refine z_if_eq hX dX3_areNegative_18 (tgt := 51) rfl (fun c23 => ?_) (fun c23 => ?_)
      · have hw := hw.1 c23
        exact hj20  _ hw
      · have hw := hw.2 c23
        refine z_aload_n hX dX3_areNegative_21 rfl (i := 1) rfl ?_
        refine z_iload hX dX3_areNegative_22 (i := 4) rfl ?_
        obtain ⟨a24, n25, f26, r27, m28, i29, hw⟩ := hw
        refine z_lald hX dX3_areNegative_24 r27 m28 i29 ?_
        revert hw
        generalize f26 (Int32.toNatClampNeg p1) = v30
        intro hw
        refine z_lconst hX (v := (0 : Int64)) dX3_areNegative_25 (by decide) ?_
        refine z_lcmp hX dX3_areNegative_26 ?_
        refine zJ_w (P := fun (j : Int32 → zS → Prop) => ∀ (p32 : Int32) (s33 : zS), j p32 s33 → zW X s33 35 [some (va_rf (some a0)), some (va_rf x1), some (.long x2), none, some (.int p1)] [.int p32]) hw (fun p32 s33 hw => ?_) (fun j34 hj34 hw => ?_)
        · refine z_lload_n hX dX3_areNegative_35 rfl (i := 2) rfl ?_
          refine z_lconst hX (v := (0 : Int64)) dX3_areNegative_36 (by decide) ?_
          refine z_lcmp hX dX3_areNegative_37 ?_
          refine zJ_w (P := fun (j : Int32 → zS → Prop) => ∀ (p35 : Int32) (s36 : zS), j p35 s36 → zW X s36 46 [some (va_rf (some a0)), some (va_rf x1), some (.long x2), none, some (.int p1)] [.int p35, .int p32]) hw (fun p35 s36 hw => ?_) (fun j37 hj37 hw => ?_)
          · refine z_icmp_eq hX dX3_areNegative_46 (tgt := 51) rfl (fun c38 => ?_) (fun c38 => ?_)
            · have hw := hw.1 c38
              exact hj20  _ hw
            · have hw := hw.2 c38
              refine z_iconst hX (v := (1 : Int32)) dX3_areNegative_49 (by decide) ?_
              exact z_ireturn hX hR dX3_areNegative_50 (zn_z hw.1) hw.2
          · refine z_if_le hX dX3_areNegative_38 (tgt := 45) rfl (fun c39 => ?_) (fun c39 => ?_)
            · have hw := hw.1 c39
              refine z_iconst hX (v := (0 : Int32)) dX3_areNegative_45 (by decide) ?_
              exact hj37 _ _ hw
            · have hw := hw.2 c39
              refine z_iconst hX (v := (1 : Int32)) dX3_areNegative_41 (by decide) ?_
              refine z_goto hX dX3_areNegative_42 (tgt := 46) rfl ?_
              exact hj37 _ _ hw
        · refine z_if_le hX dX3_areNegative_27 (tgt := 34) rfl (fun c40 => ?_) (fun c40 => ?_)
          · have hw := hw.1 c40
            refine z_iconst hX (v := (0 : Int32)) dX3_areNegative_34 (by decide) ?_
            exact hj34 _ _ hw
          · have hw := hw.2 c40
            refine z_iconst hX (v := (1 : Int32)) dX3_areNegative_30 (by decide) ?_
            refine z_goto hX dX3_areNegative_31 (tgt := 35) rfl ?_
            exact hj34 _ _ hw
abbrev cX3_isBeaten : ByteArray := prog_28_method_41_code
def yX3_isBeaten : MethodName := ⟨RX3, "isBeaten", "(ZJ)Z"⟩
def dkwX3_isBeaten_3 : List UInt8 := [167, 255, 191, 3, 172]
abbrev dktX3_isBeaten_3 : List UInt8 := dkwX3_isBeaten_3 ++ []
def dkwX3_isBeaten_2 : List UInt8 := [167, 0, 4, 3, 32, 9, 148, 158, 0, 7, 4, 167, 0, 4, 3, 159, 0, 5, 4, 172, 132, 4, 1]
abbrev dktX3_isBeaten_2 : List UInt8 := dkwX3_isBeaten_2 ++ dktX3_isBeaten_3
def dkwX3_isBeaten_1 : List UInt8 := [21, 4, 182, 0, 198, 55, 5, 22, 5, 9, 148, 153, 0, 31, 22, 5, 9, 148, 158, 0, 7, 4]
abbrev dktX3_isBeaten_1 : List UInt8 := dkwX3_isBeaten_1 ++ dktX3_isBeaten_2
def dkwX3_isBeaten_0 : List UInt8 := [3, 54, 4, 21, 4, 42, 27, 154, 0, 7, 4, 167, 0, 4, 3, 182, 0, 158, 162, 0, 53, 42, 27]
abbrev dktX3_isBeaten_0 : List UInt8 := dkwX3_isBeaten_0 ++ dktX3_isBeaten_1
theorem dksX3_isBeaten_0 : cX3_isBeaten.data.toList.drop 0 = dktX3_isBeaten_0 := by decide +kernel
theorem dksX3_isBeaten_1 : cX3_isBeaten.data.toList.drop 23 = dktX3_isBeaten_1 := dk_seg dksX3_isBeaten_0 23 rfl rfl
theorem dksX3_isBeaten_2 : cX3_isBeaten.data.toList.drop 45 = dktX3_isBeaten_2 := dk_seg dksX3_isBeaten_1 22 rfl rfl
theorem dksX3_isBeaten_3 : cX3_isBeaten.data.toList.drop 68 = dktX3_isBeaten_3 := dk_seg dksX3_isBeaten_2 23 rfl rfl
theorem dX3_isBeaten_0 : decode cX3_isBeaten 0 = .ok (.iconst 0, 1) := dk_3 (dk_at dksX3_isBeaten_0 0 rfl rfl)
theorem dX3_isBeaten_1 : decode cX3_isBeaten 1 = .ok (.istore 4, 2) := dk_54 4 (dk_at dksX3_isBeaten_0 1 rfl rfl)
theorem dX3_isBeaten_3 : decode cX3_isBeaten 3 = .ok (.iload 4, 2) := dk_21 4 (dk_at dksX3_isBeaten_0 3 rfl rfl)
theorem dX3_isBeaten_5 : decode cX3_isBeaten 5 = .ok (.aload_n 0, 1) := dk_42 (dk_at dksX3_isBeaten_0 5 rfl rfl)
theorem dX3_isBeaten_6 : decode cX3_isBeaten 6 = .ok (.iload_n 1, 1) := dk_27 (dk_at dksX3_isBeaten_0 6 rfl rfl)
theorem dX3_isBeaten_7 : decode cX3_isBeaten 7 = .ok (.ifCond .ne 7, 3) := dk_154 0 7 (dk_at dksX3_isBeaten_0 7 rfl rfl)
theorem dX3_isBeaten_10 : decode cX3_isBeaten 10 = .ok (.iconst 1, 1) := dk_4 (dk_at dksX3_isBeaten_0 10 rfl rfl)
theorem dX3_isBeaten_11 : decode cX3_isBeaten 11 = .ok (.goto 4, 3) := dk_167 0 4 (dk_at dksX3_isBeaten_0 11 rfl rfl)
theorem dX3_isBeaten_14 : decode cX3_isBeaten 14 = .ok (.iconst 0, 1) := dk_3 (dk_at dksX3_isBeaten_0 14 rfl rfl)
theorem dX3_isBeaten_15 : decode cX3_isBeaten 15 = .ok (.invokevirtual 158, 3) := dk_182 0 158 (dk_at dksX3_isBeaten_0 15 rfl rfl)
theorem dX3_isBeaten_18 : decode cX3_isBeaten 18 = .ok (.if_icmp .ge 53, 3) := dk_162 0 53 (dk_at dksX3_isBeaten_0 18 rfl rfl)
theorem dX3_isBeaten_21 : decode cX3_isBeaten 21 = .ok (.aload_n 0, 1) := dk_42 (dk_at dksX3_isBeaten_0 21 rfl rfl)
theorem dX3_isBeaten_22 : decode cX3_isBeaten 22 = .ok (.iload_n 1, 1) := dk_27 (dk_at dksX3_isBeaten_0 22 rfl rfl)
theorem dX3_isBeaten_23 : decode cX3_isBeaten 23 = .ok (.iload 4, 2) := dk_21 4 (dk_at dksX3_isBeaten_1 0 rfl rfl)
theorem dX3_isBeaten_25 : decode cX3_isBeaten 25 = .ok (.invokevirtual 198, 3) := dk_182 0 198 (dk_at dksX3_isBeaten_1 2 rfl rfl)
theorem dX3_isBeaten_28 : decode cX3_isBeaten 28 = .ok (.lstore 5, 2) := dk_55 5 (dk_at dksX3_isBeaten_1 5 rfl rfl)
theorem dX3_isBeaten_30 : decode cX3_isBeaten 30 = .ok (.lload 5, 2) := dk_22 5 (dk_at dksX3_isBeaten_1 7 rfl rfl)
theorem dX3_isBeaten_32 : decode cX3_isBeaten 32 = .ok (.lconst 0, 1) := dk_9 (dk_at dksX3_isBeaten_1 9 rfl rfl)
theorem dX3_isBeaten_33 : decode cX3_isBeaten 33 = .ok (.lcmp, 1) := dk_148 (dk_at dksX3_isBeaten_1 10 rfl rfl)
theorem dX3_isBeaten_34 : decode cX3_isBeaten 34 = .ok (.ifCond .eq 31, 3) := dk_153 0 31 (dk_at dksX3_isBeaten_1 11 rfl rfl)
theorem dX3_isBeaten_37 : decode cX3_isBeaten 37 = .ok (.lload 5, 2) := dk_22 5 (dk_at dksX3_isBeaten_1 14 rfl rfl)
theorem dX3_isBeaten_39 : decode cX3_isBeaten 39 = .ok (.lconst 0, 1) := dk_9 (dk_at dksX3_isBeaten_1 16 rfl rfl)
theorem dX3_isBeaten_40 : decode cX3_isBeaten 40 = .ok (.lcmp, 1) := dk_148 (dk_at dksX3_isBeaten_1 17 rfl rfl)
theorem dX3_isBeaten_41 : decode cX3_isBeaten 41 = .ok (.ifCond .le 7, 3) := dk_158 0 7 (dk_at dksX3_isBeaten_1 18 rfl rfl)
theorem dX3_isBeaten_44 : decode cX3_isBeaten 44 = .ok (.iconst 1, 1) := dk_4 (dk_at dksX3_isBeaten_1 21 rfl rfl)
theorem dX3_isBeaten_45 : decode cX3_isBeaten 45 = .ok (.goto 4, 3) := dk_167 0 4 (dk_at dksX3_isBeaten_2 0 rfl rfl)
theorem dX3_isBeaten_48 : decode cX3_isBeaten 48 = .ok (.iconst 0, 1) := dk_3 (dk_at dksX3_isBeaten_2 3 rfl rfl)
theorem dX3_isBeaten_49 : decode cX3_isBeaten 49 = .ok (.lload_n 2, 1) := dk_32 (dk_at dksX3_isBeaten_2 4 rfl rfl)
theorem dX3_isBeaten_50 : decode cX3_isBeaten 50 = .ok (.lconst 0, 1) := dk_9 (dk_at dksX3_isBeaten_2 5 rfl rfl)
theorem dX3_isBeaten_51 : decode cX3_isBeaten 51 = .ok (.lcmp, 1) := dk_148 (dk_at dksX3_isBeaten_2 6 rfl rfl)
theorem dX3_isBeaten_52 : decode cX3_isBeaten 52 = .ok (.ifCond .le 7, 3) := dk_158 0 7 (dk_at dksX3_isBeaten_2 7 rfl rfl)
theorem dX3_isBeaten_55 : decode cX3_isBeaten 55 = .ok (.iconst 1, 1) := dk_4 (dk_at dksX3_isBeaten_2 10 rfl rfl)
theorem dX3_isBeaten_56 : decode cX3_isBeaten 56 = .ok (.goto 4, 3) := dk_167 0 4 (dk_at dksX3_isBeaten_2 11 rfl rfl)
theorem dX3_isBeaten_59 : decode cX3_isBeaten 59 = .ok (.iconst 0, 1) := dk_3 (dk_at dksX3_isBeaten_2 14 rfl rfl)
theorem dX3_isBeaten_60 : decode cX3_isBeaten 60 = .ok (.if_icmp .eq 5, 3) := dk_159 0 5 (dk_at dksX3_isBeaten_2 15 rfl rfl)
theorem dX3_isBeaten_63 : decode cX3_isBeaten 63 = .ok (.iconst 1, 1) := dk_4 (dk_at dksX3_isBeaten_2 18 rfl rfl)
theorem dX3_isBeaten_64 : decode cX3_isBeaten 64 = .ok (.ireturn, 1) := dk_172 (dk_at dksX3_isBeaten_2 19 rfl rfl)
theorem dX3_isBeaten_65 : decode cX3_isBeaten 65 = .ok (.iinc 4 1, 3) := dk_132 4 1 (dk_at dksX3_isBeaten_2 20 rfl rfl)
theorem dX3_isBeaten_68 : decode cX3_isBeaten 68 = .ok (.goto (-65), 3) := dk_167 255 191 (dk_at dksX3_isBeaten_3 0 rfl rfl)
theorem dX3_isBeaten_71 : decode cX3_isBeaten 71 = .ok (.iconst 0, 1) := dk_3 (dk_at dksX3_isBeaten_3 3 rfl rfl)
theorem dX3_isBeaten_72 : decode cX3_isBeaten 72 = .ok (.ireturn, 1) := dk_172 (dk_at dksX3_isBeaten_3 4 rfl rfl)
/-- PackingDuelModel.isBeaten(ZJ)Z -/
def zb208 (G : zPg) (C : zO) (args : List Value) (Q : zQ) (Y : zY) (σ : zS) : Prop := ∃ (a0 : Nat) (x1 : Int32) (x2 : Int64), args = [.ref a0, .int x1, .long x2] ∧ (∃ n, zIt (fun _ _ => False) (fun rec3 (p1 : Int32) (s2 : zS) => zJ (fun (p4 : Int32) (s5 : zS) => zrc s5 (some a0) 4 (fun a10 => zcl C 189 [.ref a10, .int p4] Y s5 (zqI (fun v7 s8 => ((v7 ≤ p1) → zbool (0 : Int32) ∧ Q (some (.int (0 : Int32))) s8) ∧ ((¬ v7 ≤ p1) → zrc s8 (some a0) 4 (fun a18 => zcl C 209 [.ref a18, .int x1, .int p1] Y s8 (zqL (fun v15 s16 => zJ (fun  (s22 : zS) => (∀ v24 : Int32, v24 = p1 + (1 : Int32) → rec3 v24 s22)) (fun (j23 : zS → Prop) => (((lg_cmp v15 (0 : Int64)) = 0) → j23 s16) ∧ ((¬ (lg_cmp v15 (0 : Int64)) = 0) → zJ (fun (p27 : Int32) (s28 : zS) => zJ (fun (p30 : Int32) (s31 : zS) => ((p27 = p30) → j23 s31) ∧ ((¬ p27 = p30) → zbool (1 : Int32) ∧ Q (some (.int (1 : Int32))) s31)) (fun (j32 : Int32 → zS → Prop) => (((lg_cmp x2 (0 : Int64)) ≤ 0) → j32 (0 : Int32) s28) ∧ ((¬ (lg_cmp x2 (0 : Int64)) ≤ 0) → j32 (1 : Int32) s28))) (fun (j29 : Int32 → zS → Prop) => (((lg_cmp v15 (0 : Int64)) ≤ 0) → j29 (0 : Int32) s16) ∧ ((¬ (lg_cmp v15 (0 : Int64)) ≤ 0) → j29 (1 : Int32) s16)))))))))))) (fun (j6 : Int32 → zS → Prop) => ((¬ x1 = 0) → j6 (0 : Int32) s2) ∧ ((x1 = 0) → j6 (1 : Int32) s2))) n (0 : Int32) σ)
set_option maxHeartbeats 4000000 in
theorem wk208 {l : Launch} {g : zG} {d : Nat} {C : zO} (hG : zGk g) (hC : zSound l g d C) {args : List Value} {Q : zQ} {Y : zY} {σ : zS} (hw : zb208 (zpg g) C args Q Y σ) : zMet l g (d + 1) (⟨"PackingDuelModel", "isBeaten", "(ZJ)Z"⟩, Cond.code ⟨"PackingDuelModel", "isBeaten", "(ZJ)Z"⟩ prog_28_method_41_code 7 (Option.some FieldType.boolean)) args σ Q Y := by
  obtain ⟨a0, x1, x2, rfl, hw⟩ := hw
  refine zof hG (by decide +kernel) [false, false, true] ⟨rfl, rfl, rfl, trivial⟩ (Nat.le_of_ble_eq_true rfl) (ls := [some (va_rf (some a0)), some (.int x1), some (.long x2), none, none, none, none]) rfl ?_
  intro X hX hR hTb hd1 hd2 hl hg hnm
  subst hl
  subst hg
  have hd : zDep X d := ⟨hd1, hd2⟩
  refine z_iconst hX (v := (0 : Int32)) dX3_isBeaten_0 (by decide) ?_
  refine z_istore hX dX3_isBeaten_1 (i := 4) (Nat.le_of_ble_eq_true rfl) trivial (ls2 := [some (va_rf (some a0)), some (.int x1), some (.long x2), none, some (.int (0 : Int32)), none, none]) rfl ?_
  obtain ⟨n37, hw⟩ := hw
  refine zIt_w (P := fun (j : Int32 → zS → Prop) => ∀ (p1 : Int32) (s2 : zS), j p1 s2 → zW X s2 3 [some (va_rf (some a0)), some (.int x1), some (.long x2), none, some (.int p1), none, none] []) (fun _ _ h => h.elim) (fun rec3 hrec3 p1 s2 hw => ?_) n37 _ _ hw
  refine z_iload hX dX3_isBeaten_3 (i := 4) rfl ?_
  refine z_aload_n hX dX3_isBeaten_5 rfl (i := 0) rfl ?_
  refine z_iload_n hX dX3_isBeaten_6 rfl (i := 1) rfl ?_
  refine zJ_w (P := fun (j : Int32 → zS → Prop) => ∀ (p4 : Int32) (s5 : zS), j p4 s5 → zW X s5 15 [some (va_rf (some a0)), some (.int x1), some (.long x2), none, some (.int p1), none, none] [.int p4, va_rf (some a0), .int p1]) hw (fun p4 s5 hw => ?_) (fun j6 hj6 hw => ?_)
  · obtain ⟨a10, f11, r12, m13, hw⟩ := hw
    refine z_invV hX hd r12 (ci := 4) rfl rfl m13 dX3_isBeaten_15 (hC 189 _ zm189 _ _ _ _ hw) q2723 q2725 qs65 zh7 q2726 q136 zn189 rfl (Nat.le_of_ble_eq_true rfl) (st := [.int p1]) rfl (zcs8 (Nat.le_of_ble_eq_true rfl)) rfl (zkI (fun v7 s8 hw => ?_)) (zout hX hR hTb)
    refine z_icmp_ge hX dX3_isBeaten_18 (tgt := 71) rfl (fun c14 => ?_) (fun c14 => ?_)
    · have hw := hw.1 c14
      refine z_iconst hX (v := (0 : Int32)) dX3_isBeaten_71 (by decide) ?_
      exact z_ireturn hX hR dX3_isBeaten_72 (zn_z hw.1) hw.2
    · have hw := hw.2 c14
      refine z_aload_n hX dX3_isBeaten_21 rfl (i := 0) rfl ?_
      refine z_iload_n hX dX3_isBeaten_22 rfl (i := 1) rfl ?_
      refine z_iload hX dX3_isBeaten_23 (i := 4) rfl ?_
      obtain ⟨a18, f19, r20, m21, hw⟩ := hw
      refine z_invV hX hd r20 (ci := 4) rfl rfl m21 dX3_isBeaten_25 (hC 209 _ zm209 _ _ _ _ hw) q2801 q2803 qs79 zh7 q2804 q136 zn209 rfl (Nat.le_of_ble_eq_true rfl) (st := []) rfl (zcs8 (Nat.le_of_ble_eq_true rfl)) rfl (zkL (fun v15 s16 hw => ?_)) (zout hX hR hTb)
      refine z_lstore hX dX3_isBeaten_28 (i := 5) (Nat.le_of_ble_eq_true rfl) rfl (ls2 := [some (va_rf (some a0)), some (.int x1), some (.long x2), none, some (.int p1), some (.long v15), none]) rfl ?_
      refine z_lload hX dX3_isBeaten_30 (i := 5) rfl ?_
      refine z_lconst hX (v := (0 : Int64)) dX3_isBeaten_32 (by decide) ?_
      refine z_lcmp hX dX3_isBeaten_33 ?_
      refine zJ_w (P := fun (j : zS → Prop) => ∀  (s22 : zS), j  s22 → zW X s22 65 [some (va_rf (some a0)), some (.int x1), some (.long x2), none, some (.int p1), none, none] []) hw (fun  s22 hw => ?_) (fun j23 hj23 hw => ?_)
      · obtain ⟨v24, e25⟩ : ∃ y : Int32, y = p1 + (1 : Int32) := ⟨_, rfl⟩
        refine z_iinc hX dX3_isBeaten_65 (i := 4) (v := v24) rfl (by rw [e25]; rfl) (Nat.le_of_ble_eq_true rfl) trivial (ls2 := [some (va_rf (some a0)), some (.int x1), some (.long x2), none, some (.int v24), none, none]) rfl ?_
        have hw := hw v24 e25
        refine z_goto hX dX3_isBeaten_68 (tgt := 3) rfl ?_
        exact hrec3 _ _ hw
      · refine z_if_eq hX dX3_isBeaten_34 (tgt := 65) rfl (fun c26 => ?_) (fun c26 => ?_)
        · have hw := hw.1 c26
          refine z_sub (ls' := [some (va_rf (some a0)), some (.int x1), some (.long x2), none, some (.int p1), none, none]) (zsS (zsS (zsS (zsN (zsS (zsN (zsN (zs0)))))))) ?_
          exact hj23  _ hw
        · have hw := hw.2 c26
          refine z_lload hX dX3_isBeaten_37 (i := 5) rfl ?_
          refine z_lconst hX (v := (0 : Int64)) dX3_isBeaten_39 (by decide) ?_
          refine z_lcmp hX dX3_isBeaten_40 ?_
          refine zJ_w (P := fun (j : Int32 → zS → Prop) => ∀ (p27 : Int32) (s28 : zS), j p27 s28 → zW X s28 49 [some (va_rf (some a0)), some (.int x1), some (.long x2), none, some (.int p1), none, none] [.int p27]) hw (fun p27 s28 hw => ?_) (fun j29 hj29 hw => ?_)
          · refine z_lload_n hX dX3_isBeaten_49 rfl (i := 2) rfl ?_
            refine z_lconst hX (v := (0 : Int64)) dX3_isBeaten_50 (by decide) ?_
            refine z_lcmp hX dX3_isBeaten_51 ?_
            refine zJ_w (P := fun (j : Int32 → zS → Prop) => ∀ (p30 : Int32) (s31 : zS), j p30 s31 → zW X s31 60 [some (va_rf (some a0)), some (.int x1), some (.long x2), none, some (.int p1), none, none] [.int p30, .int p27]) hw (fun p30 s31 hw => ?_) (fun j32 hj32 hw => ?_)
            · refine z_icmp_eq hX dX3_isBeaten_60 (tgt := 65) rfl (fun c33 => ?_) (fun c33 => ?_)
              · have hw := hw.1 c33
                exact hj23  _ hw
              · have hw := hw.2 c33
                refine z_iconst hX (v := (1 : Int32)) dX3_isBeaten_63 (by decide) ?_
                exact z_ireturn hX hR dX3_isBeaten_64 (zn_z hw.1) hw.2
            · refine z_if_le hX dX3_isBeaten_52 (tgt := 59) rfl (fun c34 => ?_) (fun c34 => ?_)
              · have hw := hw.1 c34
                refine z_iconst hX (v := (0 : Int32)) dX3_isBeaten_59 (by decide) ?_
                exact hj32 _ _ hw
              · have hw := hw.2 c34
                refine z_iconst hX (v := (1 : Int32)) dX3_isBeaten_55 (by decide) ?_
                refine z_goto hX dX3_isBeaten_56 (tgt := 60) rfl ?_
                exact hj32 _ _ hw
          · refine z_if_le hX dX3_isBeaten_41 (tgt := 48) rfl (fun c35 => ?_) (fun c35 => ?_)
            · have hw := hw.1 c35
              refine z_iconst hX (v := (0 : Int32)) dX3_isBeaten_48 (by decide) ?_
              refine z_sub (ls' := [some (va_rf (some a0)), some (.int x1), some (.long x2), none, some (.int p1), none, none]) (zsS (zsS (zsS (zsN (zsS (zsN (zsN (zs0)))))))) ?_
              exact hj29 _ _ hw
            · have hw := hw.2 c35
              refine z_iconst hX (v := (1 : Int32)) dX3_isBeaten_44 (by decide) ?_
              refine z_goto hX dX3_isBeaten_45 (tgt := 49) rfl ?_
              refine z_sub (ls' := [some (va_rf (some a0)), some (.int x1), some (.long x2), none, some (.int p1), none, none]) (zsS (zsS (zsS (zsN (zsS (zsN (zsN (zs0)))))))) ?_
              exact hj29 _ _ hw
  · refine z_if_ne hX dX3_isBeaten_7 (tgt := 14) rfl (fun c36 => ?_) (fun c36 => ?_)
    · have hw := hw.1 c36
      refine z_iconst hX (v := (0 : Int32)) dX3_isBeaten_14 (by decide) ?_
      exact hj6 _ _ hw
    · have hw := hw.2 c36
      refine z_iconst hX (v := (1 : Int32)) dX3_isBeaten_10 (by decide) ?_
      refine z_goto hX dX3_isBeaten_11 (tgt := 15) rfl ?_
      exact hj6 _ _ hw
abbrev cX3_above : ByteArray := prog_28_method_40_code
def yX3_above : MethodName := ⟨RX3, "above", "(ZI)J"⟩
def dkwX3_above_4 : List UInt8 := [21, 7, 21, 6, 100, 133, 105, 97, 66, 132, 5, 1, 167, 255, 155, 33, 173]
abbrev dktX3_above_4 : List UInt8 := dkwX3_above_4 ++ []
def dkwX3_above_3 : List UInt8 := [180, 0, 50, 21, 5, 47, 21, 6, 21, 7, 100, 133, 105, 167, 0, 17, 42, 180, 0, 53, 21, 5, 47]
abbrev dktX3_above_3 : List UInt8 := dkwX3_above_3 ++ dktX3_above_4
def dkwX3_above_2 : List UInt8 := [21, 5, 46, 96, 46, 54, 6, 42, 27, 21, 5, 3, 182, 0, 194, 54, 7, 33, 27, 153, 0, 20, 42]
abbrev dktX3_above_2 : List UInt8 := dkwX3_above_2 ++ dktX3_above_3
def dkwX3_above_1 : List UInt8 := [180, 0, 40, 21, 5, 46, 104, 28, 96, 46, 167, 0, 19, 42, 180, 0, 37, 8, 28, 104, 42, 180, 0, 43]
abbrev dktX3_above_1 : List UInt8 := dkwX3_above_1 ++ dktX3_above_2
def dkwX3_above_0 : List UInt8 := [9, 66, 3, 54, 5, 21, 5, 42, 180, 0, 186, 162, 0, 98, 27, 153, 0, 22, 42, 180, 0, 37, 8, 42]
abbrev dktX3_above_0 : List UInt8 := dkwX3_above_0 ++ dktX3_above_1
theorem dksX3_above_0 : cX3_above.data.toList.drop 0 = dktX3_above_0 := by decide +kernel
theorem dksX3_above_1 : cX3_above.data.toList.drop 24 = dktX3_above_1 := dk_seg dksX3_above_0 24 rfl rfl
theorem dksX3_above_2 : cX3_above.data.toList.drop 48 = dktX3_above_2 := dk_seg dksX3_above_1 24 rfl rfl
theorem dksX3_above_3 : cX3_above.data.toList.drop 71 = dktX3_above_3 := dk_seg dksX3_above_2 23 rfl rfl
theorem dksX3_above_4 : cX3_above.data.toList.drop 94 = dktX3_above_4 := dk_seg dksX3_above_3 23 rfl rfl
theorem dX3_above_0 : decode cX3_above 0 = .ok (.lconst 0, 1) := dk_9 (dk_at dksX3_above_0 0 rfl rfl)
theorem dX3_above_1 : decode cX3_above 1 = .ok (.lstore_n 3, 1) := dk_66 (dk_at dksX3_above_0 1 rfl rfl)
theorem dX3_above_2 : decode cX3_above 2 = .ok (.iconst 0, 1) := dk_3 (dk_at dksX3_above_0 2 rfl rfl)
theorem dX3_above_3 : decode cX3_above 3 = .ok (.istore 5, 2) := dk_54 5 (dk_at dksX3_above_0 3 rfl rfl)
theorem dX3_above_5 : decode cX3_above 5 = .ok (.iload 5, 2) := dk_21 5 (dk_at dksX3_above_0 5 rfl rfl)
theorem dX3_above_7 : decode cX3_above 7 = .ok (.aload_n 0, 1) := dk_42 (dk_at dksX3_above_0 7 rfl rfl)
theorem dX3_above_8 : decode cX3_above 8 = .ok (.getfield 186, 3) := dk_180 0 186 (dk_at dksX3_above_0 8 rfl rfl)
theorem dX3_above_11 : decode cX3_above 11 = .ok (.if_icmp .ge 98, 3) := dk_162 0 98 (dk_at dksX3_above_0 11 rfl rfl)
theorem dX3_above_14 : decode cX3_above 14 = .ok (.iload_n 1, 1) := dk_27 (dk_at dksX3_above_0 14 rfl rfl)
theorem dX3_above_15 : decode cX3_above 15 = .ok (.ifCond .eq 22, 3) := dk_153 0 22 (dk_at dksX3_above_0 15 rfl rfl)
theorem dX3_above_18 : decode cX3_above 18 = .ok (.aload_n 0, 1) := dk_42 (dk_at dksX3_above_0 18 rfl rfl)
theorem dX3_above_19 : decode cX3_above 19 = .ok (.getfield 37, 3) := dk_180 0 37 (dk_at dksX3_above_0 19 rfl rfl)
theorem dX3_above_22 : decode cX3_above 22 = .ok (.iconst 5, 1) := dk_8 (dk_at dksX3_above_0 22 rfl rfl)
theorem dX3_above_23 : decode cX3_above 23 = .ok (.aload_n 0, 1) := dk_42 (dk_at dksX3_above_0 23 rfl rfl)
theorem dX3_above_24 : decode cX3_above 24 = .ok (.getfield 40, 3) := dk_180 0 40 (dk_at dksX3_above_1 0 rfl rfl)
theorem dX3_above_27 : decode cX3_above 27 = .ok (.iload 5, 2) := dk_21 5 (dk_at dksX3_above_1 3 rfl rfl)
theorem dX3_above_29 : decode cX3_above 29 = .ok (.iaload, 1) := dk_46 (dk_at dksX3_above_1 5 rfl rfl)
theorem dX3_above_30 : decode cX3_above 30 = .ok (.imul, 1) := dk_104 (dk_at dksX3_above_1 6 rfl rfl)
theorem dX3_above_31 : decode cX3_above 31 = .ok (.iload_n 2, 1) := dk_28 (dk_at dksX3_above_1 7 rfl rfl)
theorem dX3_above_32 : decode cX3_above 32 = .ok (.iadd, 1) := dk_96 (dk_at dksX3_above_1 8 rfl rfl)
theorem dX3_above_33 : decode cX3_above 33 = .ok (.iaload, 1) := dk_46 (dk_at dksX3_above_1 9 rfl rfl)
theorem dX3_above_34 : decode cX3_above 34 = .ok (.goto 19, 3) := dk_167 0 19 (dk_at dksX3_above_1 10 rfl rfl)
theorem dX3_above_37 : decode cX3_above 37 = .ok (.aload_n 0, 1) := dk_42 (dk_at dksX3_above_1 13 rfl rfl)
theorem dX3_above_38 : decode cX3_above 38 = .ok (.getfield 37, 3) := dk_180 0 37 (dk_at dksX3_above_1 14 rfl rfl)
theorem dX3_above_41 : decode cX3_above 41 = .ok (.iconst 5, 1) := dk_8 (dk_at dksX3_above_1 17 rfl rfl)
theorem dX3_above_42 : decode cX3_above 42 = .ok (.iload_n 2, 1) := dk_28 (dk_at dksX3_above_1 18 rfl rfl)
theorem dX3_above_43 : decode cX3_above 43 = .ok (.imul, 1) := dk_104 (dk_at dksX3_above_1 19 rfl rfl)
theorem dX3_above_44 : decode cX3_above 44 = .ok (.aload_n 0, 1) := dk_42 (dk_at dksX3_above_1 20 rfl rfl)
theorem dX3_above_45 : decode cX3_above 45 = .ok (.getfield 43, 3) := dk_180 0 43 (dk_at dksX3_above_1 21 rfl rfl)
theorem dX3_above_48 : decode cX3_above 48 = .ok (.iload 5, 2) := dk_21 5 (dk_at dksX3_above_2 0 rfl rfl)
theorem dX3_above_50 : decode cX3_above 50 = .ok (.iaload, 1) := dk_46 (dk_at dksX3_above_2 2 rfl rfl)
theorem dX3_above_51 : decode cX3_above 51 = .ok (.iadd, 1) := dk_96 (dk_at dksX3_above_2 3 rfl rfl)
theorem dX3_above_52 : decode cX3_above 52 = .ok (.iaload, 1) := dk_46 (dk_at dksX3_above_2 4 rfl rfl)
theorem dX3_above_53 : decode cX3_above 53 = .ok (.istore 6, 2) := dk_54 6 (dk_at dksX3_above_2 5 rfl rfl)
theorem dX3_above_55 : decode cX3_above 55 = .ok (.aload_n 0, 1) := dk_42 (dk_at dksX3_above_2 7 rfl rfl)
theorem dX3_above_56 : decode cX3_above 56 = .ok (.iload_n 1, 1) := dk_27 (dk_at dksX3_above_2 8 rfl rfl)
theorem dX3_above_57 : decode cX3_above 57 = .ok (.iload 5, 2) := dk_21 5 (dk_at dksX3_above_2 9 rfl rfl)
theorem dX3_above_59 : decode cX3_above 59 = .ok (.iconst 0, 1) := dk_3 (dk_at dksX3_above_2 11 rfl rfl)
theorem dX3_above_60 : decode cX3_above 60 = .ok (.invokevirtual 194, 3) := dk_182 0 194 (dk_at dksX3_above_2 12 rfl rfl)
theorem dX3_above_63 : decode cX3_above 63 = .ok (.istore 7, 2) := dk_54 7 (dk_at dksX3_above_2 15 rfl rfl)
theorem dX3_above_65 : decode cX3_above 65 = .ok (.lload_n 3, 1) := dk_33 (dk_at dksX3_above_2 17 rfl rfl)
theorem dX3_above_66 : decode cX3_above 66 = .ok (.iload_n 1, 1) := dk_27 (dk_at dksX3_above_2 18 rfl rfl)
theorem dX3_above_67 : decode cX3_above 67 = .ok (.ifCond .eq 20, 3) := dk_153 0 20 (dk_at dksX3_above_2 19 rfl rfl)
theorem dX3_above_70 : decode cX3_above 70 = .ok (.aload_n 0, 1) := dk_42 (dk_at dksX3_above_2 22 rfl rfl)
theorem dX3_above_71 : decode cX3_above 71 = .ok (.getfield 50, 3) := dk_180 0 50 (dk_at dksX3_above_3 0 rfl rfl)
theorem dX3_above_74 : decode cX3_above 74 = .ok (.iload 5, 2) := dk_21 5 (dk_at dksX3_above_3 3 rfl rfl)
theorem dX3_above_76 : decode cX3_above 76 = .ok (.laload, 1) := dk_47 (dk_at dksX3_above_3 5 rfl rfl)
theorem dX3_above_77 : decode cX3_above 77 = .ok (.iload 6, 2) := dk_21 6 (dk_at dksX3_above_3 6 rfl rfl)
theorem dX3_above_79 : decode cX3_above 79 = .ok (.iload 7, 2) := dk_21 7 (dk_at dksX3_above_3 8 rfl rfl)
theorem dX3_above_81 : decode cX3_above 81 = .ok (.isub, 1) := dk_100 (dk_at dksX3_above_3 10 rfl rfl)
theorem dX3_above_82 : decode cX3_above 82 = .ok (.i2l, 1) := dk_133 (dk_at dksX3_above_3 11 rfl rfl)
theorem dX3_above_83 : decode cX3_above 83 = .ok (.lmul, 1) := dk_105 (dk_at dksX3_above_3 12 rfl rfl)
theorem dX3_above_84 : decode cX3_above 84 = .ok (.goto 17, 3) := dk_167 0 17 (dk_at dksX3_above_3 13 rfl rfl)
theorem dX3_above_87 : decode cX3_above 87 = .ok (.aload_n 0, 1) := dk_42 (dk_at dksX3_above_3 16 rfl rfl)
theorem dX3_above_88 : decode cX3_above 88 = .ok (.getfield 53, 3) := dk_180 0 53 (dk_at dksX3_above_3 17 rfl rfl)
theorem dX3_above_91 : decode cX3_above 91 = .ok (.iload 5, 2) := dk_21 5 (dk_at dksX3_above_3 20 rfl rfl)
theorem dX3_above_93 : decode cX3_above 93 = .ok (.laload, 1) := dk_47 (dk_at dksX3_above_3 22 rfl rfl)
theorem dX3_above_94 : decode cX3_above 94 = .ok (.iload 7, 2) := dk_21 7 (dk_at dksX3_above_4 0 rfl rfl)
theorem dX3_above_96 : decode cX3_above 96 = .ok (.iload 6, 2) := dk_21 6 (dk_at dksX3_above_4 2 rfl rfl)
theorem dX3_above_98 : decode cX3_above 98 = .ok (.isub, 1) := dk_100 (dk_at dksX3_above_4 4 rfl rfl)
theorem dX3_above_99 : decode cX3_above 99 = .ok (.i2l, 1) := dk_133 (dk_at dksX3_above_4 5 rfl rfl)
theorem dX3_above_100 : decode cX3_above 100 = .ok (.lmul, 1) := dk_105 (dk_at dksX3_above_4 6 rfl rfl)
theorem dX3_above_101 : decode cX3_above 101 = .ok (.ladd, 1) := dk_97 (dk_at dksX3_above_4 7 rfl rfl)
theorem dX3_above_102 : decode cX3_above 102 = .ok (.lstore_n 3, 1) := dk_66 (dk_at dksX3_above_4 8 rfl rfl)
theorem dX3_above_103 : decode cX3_above 103 = .ok (.iinc 5 1, 3) := dk_132 5 1 (dk_at dksX3_above_4 9 rfl rfl)
theorem dX3_above_106 : decode cX3_above 106 = .ok (.goto (-101), 3) := dk_167 255 155 (dk_at dksX3_above_4 12 rfl rfl)
theorem dX3_above_109 : decode cX3_above 109 = .ok (.lload_n 3, 1) := dk_33 (dk_at dksX3_above_4 15 rfl rfl)
theorem dX3_above_110 : decode cX3_above 110 = .ok (.lreturn, 1) := dk_173 (dk_at dksX3_above_4 16 rfl rfl)
/-- PackingDuelModel.above(ZI)J -/
def zb209 (G : zPg) (C : zO) (args : List Value) (Q : zQ) (Y : zY) (σ : zS) : Prop := ∃ (a0 : Nat) (x1 : Int32) (x2 : Int32), args = [.ref a0, .int x1, .int x2] ∧ (∃ n, zIt (fun _ _ _ => False) (fun rec4 (p1 : Int64) (p2 : Int32) (s3 : zS) => zgI s3 (some a0) 4 15 (fun v5 => ((v5 ≤ p2) → Q (some (.long p1)) s3) ∧ ((¬ v5 ≤ p2) → zJ (fun (p12 : Int32) (s13 : zS) => zrc s13 (some a0) 4 (fun a18 => zcl C 204 [.ref a18, .int x1, .int p2, .int (0 : Int32)] Y s13 (zqI (fun v15 s16 => zJ (fun (p22 : Int64) (s23 : zS) => (∀ v25 : Int32, v25 = p2 + (1 : Int32) → rec4 (p1 + p22) v25 s23)) (fun (j24 : Int64 → zS → Prop) => ((x1 = 0) → zgR s16 (some a0) 4 18 (fun v28 => zaL s16 v28 p2 (fun v40 => j24 (v40 * (v15 - p12).toInt64) s16))) ∧ ((¬ x1 = 0) → zgR s16 (some a0) 4 17 (fun v42 => zaL s16 v42 p2 (fun v54 => j24 (v54 * (p12 - v15).toInt64) s16)))))))) (fun (j14 : Int32 → zS → Prop) => ((x1 = 0) → zgR s3 (some a0) 4 12 (fun v57 => zgR s3 (some a0) 4 14 (fun v63 => zaI s3 0 v63 p2 (fun v75 => zaI s3 0 v57 (((5 : Int32) * x2) + v75) (fun v83 => j14 v83 s3))))) ∧ ((¬ x1 = 0) → zgR s3 (some a0) 4 12 (fun v85 => zgR s3 (some a0) 4 13 (fun v91 => zaI s3 0 v91 p2 (fun v103 => zaI s3 0 v85 (((5 : Int32) * v103) + x2) (fun v111 => j14 v111 s3))))))))) n (0 : Int64) (0 : Int32) σ)
set_option maxHeartbeats 4000000 in
theorem wk209 {l : Launch} {g : zG} {d : Nat} {C : zO} (hG : zGk g) (hC : zSound l g d C) {args : List Value} {Q : zQ} {Y : zY} {σ : zS} (hw : zb209 (zpg g) C args Q Y σ) : zMet l g (d + 1) (⟨"PackingDuelModel", "above", "(ZI)J"⟩, Cond.code ⟨"PackingDuelModel", "above", "(ZI)J"⟩ prog_28_method_40_code 8 (Option.some FieldType.long)) args σ Q Y := by
  obtain ⟨a0, x1, x2, rfl, hw⟩ := hw
  refine zof hG (by decide +kernel) [false, false, false] ⟨rfl, rfl, rfl, trivial⟩ (Nat.le_of_ble_eq_true rfl) (ls := [some (va_rf (some a0)), some (.int x1), some (.int x2), none, none, none, none, none]) rfl ?_
  intro X hX hR hTb hd1 hd2 hl hg hnm
  subst hl
  subst hg
  have hd : zDep X d := ⟨hd1, hd2⟩
  refine z_lconst hX (v := (0 : Int64)) dX3_above_0 (by decide) ?_
  refine z_lstore_n hX dX3_above_1 rfl (i := 3) (Nat.le_of_ble_eq_true rfl) rfl (ls2 := [some (va_rf (some a0)), some (.int x1), some (.int x2), some (.long (0 : Int64)), none, none, none, none]) rfl ?_
  refine z_iconst hX (v := (0 : Int32)) dX3_above_2 (by decide) ?_
  refine z_istore hX dX3_above_3 (i := 5) (Nat.le_of_ble_eq_true rfl) trivial (ls2 := [some (va_rf (some a0)), some (.int x1), some (.int x2), some (.long (0 : Int64)), none, some (.int (0 : Int32)), none, none]) rfl ?_
  obtain ⟨n113, hw⟩ := hw
  refine zIt_w (P := fun (j : Int64 → Int32 → zS → Prop) => ∀ (p1 : Int64) (p2 : Int32) (s3 : zS), j p1 p2 s3 → zW X s3 5 [some (va_rf (some a0)), some (.int x1), some (.int x2), some (.long p1), none, some (.int p2), none, none] []) (fun _ _ _ h => h.elim) (fun rec4 hrec4 p1 p2 s3 hw => ?_) n113 _ _ _ hw
  refine z_iload hX dX3_above_5 (i := 5) rfl ?_
  refine z_aload_n hX dX3_above_7 rfl (i := 0) rfl ?_
  obtain ⟨a6, f7, v5, r8, m9, e10, hw⟩ := hw
  refine z_get hX zc4 (k := 15) dX3_above_8 (Nat.le_of_ble_eq_true rfl) (zlk hX q2484) r8 m9 e10 ?_
  refine z_icmp_ge hX dX3_above_11 (tgt := 109) rfl (fun c11 => ?_) (fun c11 => ?_)
  · have hw := hw.1 c11
    refine z_lload_n hX dX3_above_109 rfl (i := 3) rfl ?_
    exact z_lreturn hX hR dX3_above_110 hw
  · have hw := hw.2 c11
    refine z_iload_n hX dX3_above_14 rfl (i := 1) rfl ?_
    refine zJ_w (P := fun (j : Int32 → zS → Prop) => ∀ (p12 : Int32) (s13 : zS), j p12 s13 → zW X s13 53 [some (va_rf (some a0)), some (.int x1), some (.int x2), some (.long p1), none, some (.int p2), none, none] [.int p12]) hw (fun p12 s13 hw => ?_) (fun j14 hj14 hw => ?_)
    · refine z_istore hX dX3_above_53 (i := 6) (Nat.le_of_ble_eq_true rfl) rfl (ls2 := [some (va_rf (some a0)), some (.int x1), some (.int x2), some (.long p1), none, some (.int p2), some (.int p12), none]) rfl ?_
      refine z_aload_n hX dX3_above_55 rfl (i := 0) rfl ?_
      refine z_iload_n hX dX3_above_56 rfl (i := 1) rfl ?_
      refine z_iload hX dX3_above_57 (i := 5) rfl ?_
      refine z_iconst hX (v := (0 : Int32)) dX3_above_59 (by decide) ?_
      obtain ⟨a18, f19, r20, m21, hw⟩ := hw
      refine z_invV hX hd r20 (ci := 4) rfl rfl m21 dX3_above_60 (hC 204 _ zm204 _ _ _ _ hw) q2781 q2783 qs74 zh7 q2784 q136 zn204 rfl (Nat.le_of_ble_eq_true rfl) (st := []) rfl (zcs8 (Nat.le_of_ble_eq_true rfl)) rfl (zkI (fun v15 s16 hw => ?_)) (zout hX hR hTb)
      refine z_istore hX dX3_above_63 (i := 7) (Nat.le_of_ble_eq_true rfl) rfl (ls2 := [some (va_rf (some a0)), some (.int x1), some (.int x2), some (.long p1), none, some (.int p2), some (.int p12), some (.int v15)]) rfl ?_
      refine z_lload_n hX dX3_above_65 rfl (i := 3) rfl ?_
      refine z_iload_n hX dX3_above_66 rfl (i := 1) rfl ?_
      refine zJ_w (P := fun (j : Int64 → zS → Prop) => ∀ (p22 : Int64) (s23 : zS), j p22 s23 → zW X s23 101 [some (va_rf (some a0)), some (.int x1), some (.int x2), none, none, some (.int p2), none, none] [.long p22, .long p1]) hw (fun p22 s23 hw => ?_) (fun j24 hj24 hw => ?_)
      · refine z_ladd hX dX3_above_101 ?_
        refine z_lstore_n hX dX3_above_102 rfl (i := 3) (Nat.le_of_ble_eq_true rfl) rfl (ls2 := [some (va_rf (some a0)), some (.int x1), some (.int x2), some (.long (p1 + p22)), none, some (.int p2), none, none]) rfl ?_
        obtain ⟨v25, e26⟩ : ∃ y : Int32, y = p2 + (1 : Int32) := ⟨_, rfl⟩
        refine z_iinc hX dX3_above_103 (i := 5) (v := v25) rfl (by rw [e26]; rfl) (Nat.le_of_ble_eq_true rfl) trivial (ls2 := [some (va_rf (some a0)), some (.int x1), some (.int x2), some (.long (p1 + p22)), none, some (.int v25), none, none]) rfl ?_
        have hw := hw v25 e26
        refine z_goto hX dX3_above_106 (tgt := 5) rfl ?_
        exact hrec4 _ _ _ hw
      · refine z_if_eq hX dX3_above_67 (tgt := 87) rfl (fun c27 => ?_) (fun c27 => ?_)
        · have hw := hw.1 c27
          refine z_aload_n hX dX3_above_87 rfl (i := 0) rfl ?_
          obtain ⟨a29, f30, v28, r31, m32, e33, hw⟩ := hw
          refine z_get hX zc4 (k := 18) dX3_above_88 (Nat.le_of_ble_eq_true rfl) (zlk hX q2487) r31 m32 e33 ?_
          refine z_iload hX dX3_above_91 (i := 5) rfl ?_
          obtain ⟨a34, n35, f36, r37, m38, i39, hw⟩ := hw
          refine z_lald hX dX3_above_93 r37 m38 i39 ?_
          revert hw
          generalize f36 (Int32.toNatClampNeg p2) = v40
          intro hw
          refine z_iload hX dX3_above_94 (i := 7) rfl ?_
          refine z_iload hX dX3_above_96 (i := 6) rfl ?_
          refine z_isub hX dX3_above_98 ?_
          refine z_i2l hX dX3_above_99 ?_
          refine z_lmul hX dX3_above_100 ?_
          refine z_sub (ls' := [some (va_rf (some a0)), some (.int x1), some (.int x2), none, none, some (.int p2), none, none]) (zsS (zsS (zsS (zsN (zsN (zsS (zsN (zsN (zs0))))))))) ?_
          exact hj24 _ _ hw
        · have hw := hw.2 c27
          refine z_aload_n hX dX3_above_70 rfl (i := 0) rfl ?_
          obtain ⟨a43, f44, v42, r45, m46, e47, hw⟩ := hw
          refine z_get hX zc4 (k := 17) dX3_above_71 (Nat.le_of_ble_eq_true rfl) (zlk hX q2486) r45 m46 e47 ?_
          refine z_iload hX dX3_above_74 (i := 5) rfl ?_
          obtain ⟨a48, n49, f50, r51, m52, i53, hw⟩ := hw
          refine z_lald hX dX3_above_76 r51 m52 i53 ?_
          revert hw
          generalize f50 (Int32.toNatClampNeg p2) = v54
          intro hw
          refine z_iload hX dX3_above_77 (i := 6) rfl ?_
          refine z_iload hX dX3_above_79 (i := 7) rfl ?_
          refine z_isub hX dX3_above_81 ?_
          refine z_i2l hX dX3_above_82 ?_
          refine z_lmul hX dX3_above_83 ?_
          refine z_goto hX dX3_above_84 (tgt := 101) rfl ?_
          refine z_sub (ls' := [some (va_rf (some a0)), some (.int x1), some (.int x2), none, none, some (.int p2), none, none]) (zsS (zsS (zsS (zsN (zsN (zsS (zsN (zsN (zs0))))))))) ?_
          exact hj24 _ _ hw
    · refine z_if_eq hX dX3_above_15 (tgt := 37) rfl (fun c56 => ?_) (fun c56 => ?_)
      · have hw := hw.1 c56
        refine z_aload_n hX dX3_above_37 rfl (i := 0) rfl ?_
        obtain ⟨a58, f59, v57, r60, m61, e62, hw⟩ := hw
        refine z_get hX zc4 (k := 12) dX3_above_38 (Nat.le_of_ble_eq_true rfl) (zlk hX q2481) r60 m61 e62 ?_
        refine z_iconst hX (v := (5 : Int32)) dX3_above_41 (by decide) ?_
        refine z_iload_n hX dX3_above_42 rfl (i := 2) rfl ?_
        refine z_imul hX dX3_above_43 ?_
        refine z_aload_n hX dX3_above_44 rfl (i := 0) rfl ?_
        obtain ⟨a64, f65, v63, r66, m67, e68, hw⟩ := hw
        refine z_get hX zc4 (k := 14) dX3_above_45 (Nat.le_of_ble_eq_true rfl) (zlk hX q2483) r66 m67 e68 ?_
        refine z_iload hX dX3_above_48 (i := 5) rfl ?_
        obtain ⟨a69, n70, f71, r72, m73, i74, hw⟩ := hw
        refine z_iald hX dX3_above_50 r72 m73 i74 ?_
        revert hw
        generalize f71 (Int32.toNatClampNeg p2) = v75
        intro hw
        refine z_iadd hX dX3_above_51 ?_
        obtain ⟨a77, n78, f79, r80, m81, i82, hw⟩ := hw
        refine z_iald hX dX3_above_52 r80 m81 i82 ?_
        revert hw
        generalize f79 (Int32.toNatClampNeg (((5 : Int32) * x2) + v75)) = v83
        intro hw
        exact hj14 _ _ hw
      · have hw := hw.2 c56
        refine z_aload_n hX dX3_above_18 rfl (i := 0) rfl ?_
        obtain ⟨a86, f87, v85, r88, m89, e90, hw⟩ := hw
        refine z_get hX zc4 (k := 12) dX3_above_19 (Nat.le_of_ble_eq_true rfl) (zlk hX q2481) r88 m89 e90 ?_
        refine z_iconst hX (v := (5 : Int32)) dX3_above_22 (by decide) ?_
        refine z_aload_n hX dX3_above_23 rfl (i := 0) rfl ?_
        obtain ⟨a92, f93, v91, r94, m95, e96, hw⟩ := hw
        refine z_get hX zc4 (k := 13) dX3_above_24 (Nat.le_of_ble_eq_true rfl) (zlk hX q2482) r94 m95 e96 ?_
        refine z_iload hX dX3_above_27 (i := 5) rfl ?_
        obtain ⟨a97, n98, f99, r100, m101, i102, hw⟩ := hw
        refine z_iald hX dX3_above_29 r100 m101 i102 ?_
        revert hw
        generalize f99 (Int32.toNatClampNeg p2) = v103
        intro hw
        refine z_imul hX dX3_above_30 ?_
        refine z_iload_n hX dX3_above_31 rfl (i := 2) rfl ?_
        refine z_iadd hX dX3_above_32 ?_
        obtain ⟨a105, n106, f107, r108, m109, i110, hw⟩ := hw
        refine z_iald hX dX3_above_33 r108 m109 i110 ?_
        revert hw
        generalize f107 (Int32.toNatClampNeg (((5 : Int32) * v103) + x2)) = v111
        intro hw
        refine z_goto hX dX3_above_34 (tgt := 53) rfl ?_
        exact hj14 _ _ hw
abbrev cX3_partOf : ByteArray := prog_28_method_47_code
def yX3_partOf : MethodName := ⟨RX3, "partOf", "(JJZ)J"⟩
def dkwX3_partOf_1 : List UInt8 := [153, 0, 7, 30, 167, 0, 4, 32, 22, 5, 109, 173]
abbrev dktX3_partOf_1 : List UInt8 := dkwX3_partOf_1 ++ []
def dkwX3_partOf_0 : List UInt8 := [32, 9, 148, 156, 0, 12, 30, 32, 184, 0, 253, 117, 167, 0, 8, 30, 32, 184, 0, 253, 55, 5, 21, 4]
abbrev dktX3_partOf_0 : List UInt8 := dkwX3_partOf_0 ++ dktX3_partOf_1
theorem dksX3_partOf_0 : cX3_partOf.data.toList.drop 0 = dktX3_partOf_0 := by decide +kernel
theorem dksX3_partOf_1 : cX3_partOf.data.toList.drop 24 = dktX3_partOf_1 := dk_seg dksX3_partOf_0 24 rfl rfl
theorem dX3_partOf_0 : decode cX3_partOf 0 = .ok (.lload_n 2, 1) := dk_32 (dk_at dksX3_partOf_0 0 rfl rfl)
theorem dX3_partOf_1 : decode cX3_partOf 1 = .ok (.lconst 0, 1) := dk_9 (dk_at dksX3_partOf_0 1 rfl rfl)
theorem dX3_partOf_2 : decode cX3_partOf 2 = .ok (.lcmp, 1) := dk_148 (dk_at dksX3_partOf_0 2 rfl rfl)
theorem dX3_partOf_3 : decode cX3_partOf 3 = .ok (.ifCond .ge 12, 3) := dk_156 0 12 (dk_at dksX3_partOf_0 3 rfl rfl)
theorem dX3_partOf_6 : decode cX3_partOf 6 = .ok (.lload_n 0, 1) := dk_30 (dk_at dksX3_partOf_0 6 rfl rfl)
theorem dX3_partOf_7 : decode cX3_partOf 7 = .ok (.lload_n 2, 1) := dk_32 (dk_at dksX3_partOf_0 7 rfl rfl)
theorem dX3_partOf_8 : decode cX3_partOf 8 = .ok (.invokestatic 253, 3) := dk_184 0 253 (dk_at dksX3_partOf_0 8 rfl rfl)
theorem dX3_partOf_11 : decode cX3_partOf 11 = .ok (.lneg, 1) := dk_117 (dk_at dksX3_partOf_0 11 rfl rfl)
theorem dX3_partOf_12 : decode cX3_partOf 12 = .ok (.goto 8, 3) := dk_167 0 8 (dk_at dksX3_partOf_0 12 rfl rfl)
theorem dX3_partOf_15 : decode cX3_partOf 15 = .ok (.lload_n 0, 1) := dk_30 (dk_at dksX3_partOf_0 15 rfl rfl)
theorem dX3_partOf_16 : decode cX3_partOf 16 = .ok (.lload_n 2, 1) := dk_32 (dk_at dksX3_partOf_0 16 rfl rfl)
theorem dX3_partOf_17 : decode cX3_partOf 17 = .ok (.invokestatic 253, 3) := dk_184 0 253 (dk_at dksX3_partOf_0 17 rfl rfl)
theorem dX3_partOf_20 : decode cX3_partOf 20 = .ok (.lstore 5, 2) := dk_55 5 (dk_at dksX3_partOf_0 20 rfl rfl)
theorem dX3_partOf_22 : decode cX3_partOf 22 = .ok (.iload 4, 2) := dk_21 4 (dk_at dksX3_partOf_0 22 rfl rfl)
theorem dX3_partOf_24 : decode cX3_partOf 24 = .ok (.ifCond .eq 7, 3) := dk_153 0 7 (dk_at dksX3_partOf_1 0 rfl rfl)
theorem dX3_partOf_27 : decode cX3_partOf 27 = .ok (.lload_n 0, 1) := dk_30 (dk_at dksX3_partOf_1 3 rfl rfl)
theorem dX3_partOf_28 : decode cX3_partOf 28 = .ok (.goto 4, 3) := dk_167 0 4 (dk_at dksX3_partOf_1 4 rfl rfl)
theorem dX3_partOf_31 : decode cX3_partOf 31 = .ok (.lload_n 2, 1) := dk_32 (dk_at dksX3_partOf_1 7 rfl rfl)
theorem dX3_partOf_32 : decode cX3_partOf 32 = .ok (.lload 5, 2) := dk_22 5 (dk_at dksX3_partOf_1 8 rfl rfl)
theorem dX3_partOf_34 : decode cX3_partOf 34 = .ok (.ldiv, 1) := dk_109 (dk_at dksX3_partOf_1 10 rfl rfl)
theorem dX3_partOf_35 : decode cX3_partOf 35 = .ok (.lreturn, 1) := dk_173 (dk_at dksX3_partOf_1 11 rfl rfl)
/-- PackingDuelModel.partOf(JJZ)J -/
def zb210 (G : zPg) (C : zO) (args : List Value) (Q : zQ) (Y : zY) (σ : zS) : Prop := ∃ (x1 : Int64) (x2 : Int64) (x3 : Int32), args = [.long x1, .long x2, .int x3] ∧ (zJ (fun (p1 : Int64) (s2 : zS) => zJ (fun (p4 : Int64) (s5 : zS) => (¬ p1 = 0 ∧ Q (some (.long (p4 / p1))) s5)) (fun (j6 : Int64 → zS → Prop) => ((x3 = 0) → j6 x2 s2) ∧ ((¬ x3 = 0) → j6 x1 s2))) (fun (j3 : Int64 → zS → Prop) => ((0 ≤ (lg_cmp x2 (0 : Int64))) → zcl C 211 [.long x1, .long x2] Y σ (zqL (fun v9 s10 => j3 v9 s10))) ∧ ((¬ 0 ≤ (lg_cmp x2 (0 : Int64))) → zcl C 211 [.long x1, .long x2] Y σ (zqL (fun v12 s13 => j3 (-v12) s13)))))
set_option maxHeartbeats 4000000 in
theorem wk210 {l : Launch} {g : zG} {d : Nat} {C : zO} (hG : zGk g) (hC : zSound l g d C) {args : List Value} {Q : zQ} {Y : zY} {σ : zS} (hw : zb210 (zpg g) C args Q Y σ) : zMet l g (d + 1) (⟨"PackingDuelModel", "partOf", "(JJZ)J"⟩, Cond.code ⟨"PackingDuelModel", "partOf", "(JJZ)J"⟩ prog_28_method_47_code 7 (Option.some FieldType.long)) args σ Q Y := by
  obtain ⟨x1, x2, x3, rfl, hw⟩ := hw
  refine zof hG (by decide +kernel) [true, true, false] ⟨rfl, rfl, rfl, trivial⟩ (Nat.le_of_ble_eq_true rfl) (ls := [some (.long x1), none, some (.long x2), none, some (.int x3), none, none]) rfl ?_
  intro X hX hR hTb hd1 hd2 hl hg hnm
  subst hl
  subst hg
  have hd : zDep X d := ⟨hd1, hd2⟩
  refine z_lload_n hX dX3_partOf_0 rfl (i := 2) rfl ?_
  refine z_lconst hX (v := (0 : Int64)) dX3_partOf_1 (by decide) ?_
  refine z_lcmp hX dX3_partOf_2 ?_
  refine zJ_w (P := fun (j : Int64 → zS → Prop) => ∀ (p1 : Int64) (s2 : zS), j p1 s2 → zW X s2 20 [some (.long x1), none, some (.long x2), none, some (.int x3), none, none] [.long p1]) hw (fun p1 s2 hw => ?_) (fun j3 hj3 hw => ?_)
  · refine z_lstore hX dX3_partOf_20 (i := 5) (Nat.le_of_ble_eq_true rfl) rfl (ls2 := [some (.long x1), none, some (.long x2), none, some (.int x3), some (.long p1), none]) rfl ?_
    refine z_iload hX dX3_partOf_22 (i := 4) rfl ?_
    refine zJ_w (P := fun (j : Int64 → zS → Prop) => ∀ (p4 : Int64) (s5 : zS), j p4 s5 → zW X s5 32 [none, none, none, none, none, some (.long p1), none] [.long p4]) hw (fun p4 s5 hw => ?_) (fun j6 hj6 hw => ?_)
    · refine z_lload hX dX3_partOf_32 (i := 5) rfl ?_
      refine z_ldiv hX dX3_partOf_34 hw.1 ?_
      have hw := hw.2
      exact z_lreturn hX hR dX3_partOf_35 hw
    · refine z_if_eq hX dX3_partOf_24 (tgt := 31) rfl (fun c7 => ?_) (fun c7 => ?_)
      · have hw := hw.1 c7
        refine z_lload_n hX dX3_partOf_31 rfl (i := 2) rfl ?_
        refine z_sub (ls' := [none, none, none, none, none, some (.long p1), none]) (zsN (zsN (zsN (zsN (zsN (zsS (zsN (zs0)))))))) ?_
        exact hj6 _ _ hw
      · have hw := hw.2 c7
        refine z_lload_n hX dX3_partOf_27 rfl (i := 0) rfl ?_
        refine z_goto hX dX3_partOf_28 (tgt := 32) rfl ?_
        refine z_sub (ls' := [none, none, none, none, none, some (.long p1), none]) (zsN (zsN (zsN (zsN (zsN (zsS (zsN (zs0)))))))) ?_
        exact hj6 _ _ hw
  · refine z_if_ge hX dX3_partOf_3 (tgt := 15) rfl (fun c8 => ?_) (fun c8 => ?_)
    · have hw := hw.1 c8
      refine z_lload_n hX dX3_partOf_15 rfl (i := 0) rfl ?_
      refine z_lload_n hX dX3_partOf_16 rfl (i := 2) rfl ?_
      refine z_invS hX hd dX3_partOf_17 (hC 211 _ zm211 _ _ _ _ hw) q2809 q2810 zh7 q2811 q136 zn211 rfl (Nat.le_of_ble_eq_true rfl) (st := []) rfl (zcs8 (Nat.le_of_ble_eq_true rfl)) rfl (zkL (fun v9 s10 hw => ?_)) (zout hX hR hTb)
      exact hj3 _ _ hw
    · have hw := hw.2 c8
      refine z_lload_n hX dX3_partOf_6 rfl (i := 0) rfl ?_
      refine z_lload_n hX dX3_partOf_7 rfl (i := 2) rfl ?_
      refine z_invS hX hd dX3_partOf_8 (hC 211 _ zm211 _ _ _ _ hw) q2809 q2810 zh7 q2811 q136 zn211 rfl (Nat.le_of_ble_eq_true rfl) (st := []) rfl (zcs8 (Nat.le_of_ble_eq_true rfl)) rfl (zkL (fun v12 s13 hw => ?_)) (zout hX hR hTb)
      refine z_lneg hX dX3_partOf_11 ?_
      refine z_goto hX dX3_partOf_12 (tgt := 20) rfl ?_
      exact hj3 _ _ hw
abbrev cX3_divisor : ByteArray := prog_28_method_46_code
def yX3_divisor : MethodName := ⟨RX3, "divisor", "(JJ)J"⟩
def dkwX3_divisor_1 : List UInt8 := [55, 8, 22, 6, 55, 4, 22, 8, 55, 6, 167, 255, 234, 22, 4, 173]
abbrev dktX3_divisor_1 : List UInt8 := dkwX3_divisor_1 ++ []
def dkwX3_divisor_0 : List UInt8 := [30, 184, 0, 249, 55, 4, 32, 184, 0, 249, 55, 6, 22, 6, 9, 148, 153, 0, 21, 22, 4, 22, 6, 113]
abbrev dktX3_divisor_0 : List UInt8 := dkwX3_divisor_0 ++ dktX3_divisor_1
theorem dksX3_divisor_0 : cX3_divisor.data.toList.drop 0 = dktX3_divisor_0 := by decide +kernel
theorem dksX3_divisor_1 : cX3_divisor.data.toList.drop 24 = dktX3_divisor_1 := dk_seg dksX3_divisor_0 24 rfl rfl
theorem dX3_divisor_0 : decode cX3_divisor 0 = .ok (.lload_n 0, 1) := dk_30 (dk_at dksX3_divisor_0 0 rfl rfl)
theorem dX3_divisor_1 : decode cX3_divisor 1 = .ok (.invokestatic 249, 3) := dk_184 0 249 (dk_at dksX3_divisor_0 1 rfl rfl)
theorem dX3_divisor_4 : decode cX3_divisor 4 = .ok (.lstore 4, 2) := dk_55 4 (dk_at dksX3_divisor_0 4 rfl rfl)
theorem dX3_divisor_6 : decode cX3_divisor 6 = .ok (.lload_n 2, 1) := dk_32 (dk_at dksX3_divisor_0 6 rfl rfl)
theorem dX3_divisor_7 : decode cX3_divisor 7 = .ok (.invokestatic 249, 3) := dk_184 0 249 (dk_at dksX3_divisor_0 7 rfl rfl)
theorem dX3_divisor_10 : decode cX3_divisor 10 = .ok (.lstore 6, 2) := dk_55 6 (dk_at dksX3_divisor_0 10 rfl rfl)
theorem dX3_divisor_12 : decode cX3_divisor 12 = .ok (.lload 6, 2) := dk_22 6 (dk_at dksX3_divisor_0 12 rfl rfl)
theorem dX3_divisor_14 : decode cX3_divisor 14 = .ok (.lconst 0, 1) := dk_9 (dk_at dksX3_divisor_0 14 rfl rfl)
theorem dX3_divisor_15 : decode cX3_divisor 15 = .ok (.lcmp, 1) := dk_148 (dk_at dksX3_divisor_0 15 rfl rfl)
theorem dX3_divisor_16 : decode cX3_divisor 16 = .ok (.ifCond .eq 21, 3) := dk_153 0 21 (dk_at dksX3_divisor_0 16 rfl rfl)
theorem dX3_divisor_19 : decode cX3_divisor 19 = .ok (.lload 4, 2) := dk_22 4 (dk_at dksX3_divisor_0 19 rfl rfl)
theorem dX3_divisor_21 : decode cX3_divisor 21 = .ok (.lload 6, 2) := dk_22 6 (dk_at dksX3_divisor_0 21 rfl rfl)
theorem dX3_divisor_23 : decode cX3_divisor 23 = .ok (.lrem, 1) := dk_113 (dk_at dksX3_divisor_0 23 rfl rfl)
theorem dX3_divisor_24 : decode cX3_divisor 24 = .ok (.lstore 8, 2) := dk_55 8 (dk_at dksX3_divisor_1 0 rfl rfl)
theorem dX3_divisor_26 : decode cX3_divisor 26 = .ok (.lload 6, 2) := dk_22 6 (dk_at dksX3_divisor_1 2 rfl rfl)
theorem dX3_divisor_28 : decode cX3_divisor 28 = .ok (.lstore 4, 2) := dk_55 4 (dk_at dksX3_divisor_1 4 rfl rfl)
theorem dX3_divisor_30 : decode cX3_divisor 30 = .ok (.lload 8, 2) := dk_22 8 (dk_at dksX3_divisor_1 6 rfl rfl)
theorem dX3_divisor_32 : decode cX3_divisor 32 = .ok (.lstore 6, 2) := dk_55 6 (dk_at dksX3_divisor_1 8 rfl rfl)
theorem dX3_divisor_34 : decode cX3_divisor 34 = .ok (.goto (-22), 3) := dk_167 255 234 (dk_at dksX3_divisor_1 10 rfl rfl)
theorem dX3_divisor_37 : decode cX3_divisor 37 = .ok (.lload 4, 2) := dk_22 4 (dk_at dksX3_divisor_1 13 rfl rfl)
theorem dX3_divisor_39 : decode cX3_divisor 39 = .ok (.lreturn, 1) := dk_173 (dk_at dksX3_divisor_1 15 rfl rfl)
/-- PackingDuelModel.divisor(JJ)J -/
def zb211 (G : zPg) (C : zO) (args : List Value) (Q : zQ) (Y : zY) (σ : zS) : Prop := ∃ (x1 : Int64) (x2 : Int64), args = [.long x1, .long x2] ∧ (zcl C 296 [.long x1] Y σ (zqL (fun v1 s2 => zcl C 296 [.long x2] Y s2 (zqL (fun v4 s5 => ∃ n, zIt (fun _ _ _ => False) (fun rec10 (p7 : Int64) (p8 : Int64) (s9 : zS) => (((lg_cmp p8 (0 : Int64)) = 0) → Q (some (.long p7)) s9) ∧ ((¬ (lg_cmp p8 (0 : Int64)) = 0) → (¬ p8 = 0 ∧ rec10 p8 (p7 - p7 / p8 * p8) s9))) n v1 v4 s5)))))
set_option maxHeartbeats 4000000 in
theorem wk211 {l : Launch} {g : zG} {d : Nat} {C : zO} (hG : zGk g) (hC : zSound l g d C) {args : List Value} {Q : zQ} {Y : zY} {σ : zS} (hw : zb211 (zpg g) C args Q Y σ) : zMet l g (d + 1) (⟨"PackingDuelModel", "divisor", "(JJ)J"⟩, Cond.code ⟨"PackingDuelModel", "divisor", "(JJ)J"⟩ prog_28_method_46_code 10 (Option.some FieldType.long)) args σ Q Y := by
  obtain ⟨x1, x2, rfl, hw⟩ := hw
  refine zof hG (by decide +kernel) [true, true] ⟨rfl, rfl, trivial⟩ (Nat.le_of_ble_eq_true rfl) (ls := [some (.long x1), none, some (.long x2), none, none, none, none, none, none, none]) rfl ?_
  intro X hX hR hTb hd1 hd2 hl hg hnm
  subst hl
  subst hg
  have hd : zDep X d := ⟨hd1, hd2⟩
  refine z_lload_n hX dX3_divisor_0 rfl (i := 0) rfl ?_
  refine z_invS hX hd dX3_divisor_1 (hC 296 _ zm296 _ _ _ _ hw) q2812 q611 zh8 q612 q137 zn296 rfl (Nat.le_of_ble_eq_true rfl) (st := []) rfl (zcs8 (Nat.le_of_ble_eq_true rfl)) rfl (zkL (fun v1 s2 hw => ?_)) (zout hX hR hTb)
  refine z_lstore hX dX3_divisor_4 (i := 4) (Nat.le_of_ble_eq_true rfl) trivial (ls2 := [some (.long x1), none, some (.long x2), none, some (.long v1), none, none, none, none, none]) rfl ?_
  refine z_lload_n hX dX3_divisor_6 rfl (i := 2) rfl ?_
  refine z_invS hX hd dX3_divisor_7 (hC 296 _ zm296 _ _ _ _ hw) q2812 q611 zh8 q612 q137 zn296 rfl (Nat.le_of_ble_eq_true rfl) (st := []) rfl (zcs8 (Nat.le_of_ble_eq_true rfl)) rfl (zkL (fun v4 s5 hw => ?_)) (zout hX hR hTb)
  refine z_lstore hX dX3_divisor_10 (i := 6) (Nat.le_of_ble_eq_true rfl) trivial (ls2 := [some (.long x1), none, some (.long x2), none, some (.long v1), none, some (.long v4), none, none, none]) rfl ?_
  obtain ⟨n12, hw⟩ := hw
  refine z_sub (ls' := [none, none, none, none, some (.long v1), none, some (.long v4), none, none, none]) (zsN (zsN (zsN (zsN (zsS (zsN (zsS (zsN (zsN (zsN (zs0))))))))))) ?_
  refine zIt_w (P := fun (j : Int64 → Int64 → zS → Prop) => ∀ (p7 : Int64) (p8 : Int64) (s9 : zS), j p7 p8 s9 → zW X s9 12 [none, none, none, none, some (.long p7), none, some (.long p8), none, none, none] []) (fun _ _ _ h => h.elim) (fun rec10 hrec10 p7 p8 s9 hw => ?_) n12 _ _ _ hw
  refine z_lload hX dX3_divisor_12 (i := 6) rfl ?_
  refine z_lconst hX (v := (0 : Int64)) dX3_divisor_14 (by decide) ?_
  refine z_lcmp hX dX3_divisor_15 ?_
  refine z_if_eq hX dX3_divisor_16 (tgt := 37) rfl (fun c11 => ?_) (fun c11 => ?_)
  · have hw := hw.1 c11
    refine z_lload hX dX3_divisor_37 (i := 4) rfl ?_
    exact z_lreturn hX hR dX3_divisor_39 hw
  · have hw := hw.2 c11
    refine z_lload hX dX3_divisor_19 (i := 4) rfl ?_
    refine z_lload hX dX3_divisor_21 (i := 6) rfl ?_
    refine z_lrem hX dX3_divisor_23 hw.1 ?_
    have hw := hw.2
    refine z_lstore hX dX3_divisor_24 (i := 8) (Nat.le_of_ble_eq_true rfl) trivial (ls2 := [none, none, none, none, some (.long p7), none, some (.long p8), none, some (.long (p7 - p7 / p8 * p8)), none]) rfl ?_
    refine z_lload hX dX3_divisor_26 (i := 6) rfl ?_
    refine z_lstore hX dX3_divisor_28 (i := 4) (Nat.le_of_ble_eq_true rfl) trivial (ls2 := [none, none, none, none, some (.long p8), none, some (.long p8), none, some (.long (p7 - p7 / p8 * p8)), none]) rfl ?_
    refine z_lload hX dX3_divisor_30 (i := 8) rfl ?_
    refine z_lstore hX dX3_divisor_32 (i := 6) (Nat.le_of_ble_eq_true rfl) trivial (ls2 := [none, none, none, none, some (.long p8), none, some (.long (p7 - p7 / p8 * p8)), none, some (.long (p7 - p7 / p8 * p8)), none]) rfl ?_
    refine z_goto hX dX3_divisor_34 (tgt := 12) rfl ?_
    refine z_sub (ls' := [none, none, none, none, some (.long p8), none, some (.long (p7 - p7 / p8 * p8)), none, none, none]) (zsN (zsN (zsN (zsN (zsS (zsN (zsS (zsN (zsN (zsN (zs0))))))))))) ?_
    exact hrec10 _ _ _ hw
abbrev cX3_kernel : ByteArray := prog_28_method_76_code
def yX3_kernel : MethodName := ⟨RX3, "kernel", "(Z)I"⟩
def dkwX3_kernel_1 : List UInt8 := [180, 0, 233, 167, 0, 7, 42, 180, 0, 236, 172]
abbrev dktX3_kernel_1 : List UInt8 := dkwX3_kernel_1 ++ []
def dkwX3_kernel_0 : List UInt8 := [42, 3, 181, 0, 103, 42, 182, 1, 55, 154, 0, 5, 2, 172, 42, 182, 0, 246, 27, 153, 0, 10, 42]
abbrev dktX3_kernel_0 : List UInt8 := dkwX3_kernel_0 ++ dktX3_kernel_1
theorem dksX3_kernel_0 : cX3_kernel.data.toList.drop 0 = dktX3_kernel_0 := by decide +kernel
theorem dksX3_kernel_1 : cX3_kernel.data.toList.drop 23 = dktX3_kernel_1 := dk_seg dksX3_kernel_0 23 rfl rfl
theorem dX3_kernel_0 : decode cX3_kernel 0 = .ok (.aload_n 0, 1) := dk_42 (dk_at dksX3_kernel_0 0 rfl rfl)
theorem dX3_kernel_1 : decode cX3_kernel 1 = .ok (.iconst 0, 1) := dk_3 (dk_at dksX3_kernel_0 1 rfl rfl)
theorem dX3_kernel_2 : decode cX3_kernel 2 = .ok (.putfield 103, 3) := dk_181 0 103 (dk_at dksX3_kernel_0 2 rfl rfl)
theorem dX3_kernel_5 : decode cX3_kernel 5 = .ok (.aload_n 0, 1) := dk_42 (dk_at dksX3_kernel_0 5 rfl rfl)
theorem dX3_kernel_6 : decode cX3_kernel 6 = .ok (.invokevirtual 311, 3) := dk_182 1 55 (dk_at dksX3_kernel_0 6 rfl rfl)
theorem dX3_kernel_9 : decode cX3_kernel 9 = .ok (.ifCond .ne 5, 3) := dk_154 0 5 (dk_at dksX3_kernel_0 9 rfl rfl)
theorem dX3_kernel_12 : decode cX3_kernel 12 = .ok (.iconst (-1), 1) := dk_2 (dk_at dksX3_kernel_0 12 rfl rfl)
theorem dX3_kernel_13 : decode cX3_kernel 13 = .ok (.ireturn, 1) := dk_172 (dk_at dksX3_kernel_0 13 rfl rfl)
theorem dX3_kernel_14 : decode cX3_kernel 14 = .ok (.aload_n 0, 1) := dk_42 (dk_at dksX3_kernel_0 14 rfl rfl)
theorem dX3_kernel_15 : decode cX3_kernel 15 = .ok (.invokevirtual 246, 3) := dk_182 0 246 (dk_at dksX3_kernel_0 15 rfl rfl)
theorem dX3_kernel_18 : decode cX3_kernel 18 = .ok (.iload_n 1, 1) := dk_27 (dk_at dksX3_kernel_0 18 rfl rfl)
theorem dX3_kernel_19 : decode cX3_kernel 19 = .ok (.ifCond .eq 10, 3) := dk_153 0 10 (dk_at dksX3_kernel_0 19 rfl rfl)
theorem dX3_kernel_22 : decode cX3_kernel 22 = .ok (.aload_n 0, 1) := dk_42 (dk_at dksX3_kernel_0 22 rfl rfl)
theorem dX3_kernel_23 : decode cX3_kernel 23 = .ok (.getfield 233, 3) := dk_180 0 233 (dk_at dksX3_kernel_1 0 rfl rfl)
theorem dX3_kernel_26 : decode cX3_kernel 26 = .ok (.goto 7, 3) := dk_167 0 7 (dk_at dksX3_kernel_1 3 rfl rfl)
theorem dX3_kernel_29 : decode cX3_kernel 29 = .ok (.aload_n 0, 1) := dk_42 (dk_at dksX3_kernel_1 6 rfl rfl)
theorem dX3_kernel_30 : decode cX3_kernel 30 = .ok (.getfield 236, 3) := dk_180 0 236 (dk_at dksX3_kernel_1 7 rfl rfl)
theorem dX3_kernel_33 : decode cX3_kernel 33 = .ok (.ireturn, 1) := dk_172 (dk_at dksX3_kernel_1 10 rfl rfl)
/-- PackingDuelModel.kernel(Z)I -/
def zb212 (G : zPg) (C : zO) (args : List Value) (Q : zQ) (Y : zY) (σ : zS) : Prop := ∃ (a0 : Nat) (x1 : Int32), args = [.ref a0, .int x1] ∧ (zput σ G.1 (some a0) 4 5 (.int (0 : Int32)) (fun s1 => zrc s1 (some a0) 4 (fun a12 => zcl C 196 [.ref a12] Y s1 (zqI (fun v9 s10 => ((¬ v9 = 0) → zrc s10 (some a0) 4 (fun a20 => zcl C 198 [.ref a20] Y s10 (zqV (fun s18 => zJ (fun (p24 : Int32) (s25 : zS) => Q (some (.int p24)) s25) (fun (j26 : Int32 → zS → Prop) => ((x1 = 0) → zgI s18 (some a0) 4 22 (fun v28 => j26 v28 s18)) ∧ ((¬ x1 = 0) → zgI s18 (some a0) 4 21 (fun v34 => j26 v34 s18))))))) ∧ ((v9 = 0) → Q (some (.int (-1 : Int32))) s10))))))
set_option maxHeartbeats 4000000 in
theorem wk212 {l : Launch} {g : zG} {d : Nat} {C : zO} (hG : zGk g) (hC : zSound l g d C) {args : List Value} {Q : zQ} {Y : zY} {σ : zS} (hw : zb212 (zpg g) C args Q Y σ) : zMet l g (d + 1) (⟨"PackingDuelModel", "kernel", "(Z)I"⟩, Cond.code ⟨"PackingDuelModel", "kernel", "(Z)I"⟩ prog_28_method_76_code 2 (Option.some FieldType.int)) args σ Q Y := by
  obtain ⟨a0, x1, rfl, hw⟩ := hw
  refine zof hG (by decide +kernel) [false, false] ⟨rfl, rfl, trivial⟩ (Nat.le_of_ble_eq_true rfl) (ls := [some (va_rf (some a0)), some (.int x1)]) rfl ?_
  intro X hX hR hTb hd1 hd2 hl hg hnm
  subst hl
  subst hg
  have hd : zDep X d := ⟨hd1, hd2⟩
  refine z_aload_n hX dX3_kernel_0 rfl (i := 0) rfl ?_
  refine z_iconst hX (v := (0 : Int32)) dX3_kernel_1 (by decide) ?_
  obtain ⟨a3, f4, r5, g6, m7, l8, hw⟩ := hw
  refine z_put hX zc4 (k := 5) dX3_kernel_2 (Nat.le_of_ble_eq_true rfl) (zlk hX q2474) rfl rfl rfl r5 g6 m7 l8 (z_nm (fun s1 e2 => ?_))
  have hw := hw s1 e2
  refine z_aload_n hX dX3_kernel_5 rfl (i := 0) rfl ?_
  obtain ⟨a12, f13, r14, m15, hw⟩ := hw
  refine z_invV hX hd r14 (ci := 4) rfl rfl m15 dX3_kernel_6 (hC 196 _ zm196 _ _ _ _ hw) q2749 q2751 qs68 zh7 q2752 q136 zn196 rfl (Nat.le_of_ble_eq_true rfl) (st := []) rfl (zcs8 (Nat.le_of_ble_eq_true rfl)) rfl (zkI (fun v9 s10 hw => ?_)) (zout hX hR hTb)
  refine z_if_ne hX dX3_kernel_9 (tgt := 14) rfl (fun c16 => ?_) (fun c16 => ?_)
  · have hw := hw.1 c16
    refine z_aload_n hX dX3_kernel_14 rfl (i := 0) rfl ?_
    obtain ⟨a20, f21, r22, m23, hw⟩ := hw
    refine z_invV hX hd r22 (ci := 4) rfl rfl m23 dX3_kernel_15 (hC 198 _ zm198 _ _ _ _ hw) q2757 q2759 qs70 zh7 q2760 q136 zn198 rfl (Nat.le_of_ble_eq_true rfl) (st := []) rfl (zcs8 (Nat.le_of_ble_eq_true rfl)) rfl (zkV (fun s18 hw => ?_)) (zout hX hR hTb)
    refine z_iload_n hX dX3_kernel_18 rfl (i := 1) rfl ?_
    refine zJ_w (P := fun (j : Int32 → zS → Prop) => ∀ (p24 : Int32) (s25 : zS), j p24 s25 → zW X s25 33 [none, none] [.int p24]) hw (fun p24 s25 hw => ?_) (fun j26 hj26 hw => ?_)
    · exact z_ireturn hX hR dX3_kernel_33 rfl hw
    · refine z_if_eq hX dX3_kernel_19 (tgt := 29) rfl (fun c27 => ?_) (fun c27 => ?_)
      · have hw := hw.1 c27
        refine z_aload_n hX dX3_kernel_29 rfl (i := 0) rfl ?_
        obtain ⟨a29, f30, v28, r31, m32, e33, hw⟩ := hw
        refine z_get hX zc4 (k := 22) dX3_kernel_30 (Nat.le_of_ble_eq_true rfl) (zlk hX q2491) r31 m32 e33 ?_
        refine z_sub (ls' := [none, none]) (zsN (zsN (zs0))) ?_
        exact hj26 _ _ hw
      · have hw := hw.2 c27
        refine z_aload_n hX dX3_kernel_22 rfl (i := 0) rfl ?_
        obtain ⟨a35, f36, v34, r37, m38, e39, hw⟩ := hw
        refine z_get hX zc4 (k := 21) dX3_kernel_23 (Nat.le_of_ble_eq_true rfl) (zlk hX q2490) r37 m38 e39 ?_
        refine z_goto hX dX3_kernel_26 (tgt := 33) rfl ?_
        refine z_sub (ls' := [none, none]) (zsN (zsN (zs0))) ?_
        exact hj26 _ _ hw
  · have hw := hw.2 c16
    refine z_iconst hX (v := (-1 : Int32)) dX3_kernel_12 (by decide) ?_
    exact z_ireturn hX hR dX3_kernel_13 rfl hw
abbrev cX3_weight : ByteArray := prog_28_method_77_code
def yX3_weight : MethodName := ⟨RX3, "weight", "(ZIZ)J"⟩
def dkwX3_weight_5 : List UInt8 := [167, 255, 181, 29, 153, 0, 7, 9, 167, 0, 4, 10, 173]
abbrev dktX3_weight_5 : List UInt8 := dkwX3_weight_5 ++ []
def dkwX3_weight_4 : List UInt8 := [47, 27, 153, 0, 10, 42, 180, 0, 215, 167, 0, 7, 42, 180, 0, 219, 29, 184, 1, 63, 173, 132, 4, 1]
abbrev dktX3_weight_4 : List UInt8 := dkwX3_weight_4 ++ dktX3_weight_5
def dkwX3_weight_3 : List UInt8 := [28, 160, 0, 44, 27, 153, 0, 13, 42, 180, 0, 50, 21, 4, 47, 167, 0, 10, 42, 180, 0, 53, 21, 4]
abbrev dktX3_weight_3 : List UInt8 := dkwX3_weight_3 ++ dktX3_weight_4
def dkwX3_weight_2 : List UInt8 := [180, 0, 186, 162, 0, 72, 27, 153, 0, 10, 42, 180, 0, 40, 167, 0, 7, 42, 180, 0, 43, 21, 4, 46]
abbrev dktX3_weight_2 : List UInt8 := dkwX3_weight_2 ++ dktX3_weight_3
def dkwX3_weight_1 : List UInt8 := [182, 1, 55, 153, 0, 10, 42, 182, 1, 58, 154, 0, 7, 20, 1, 61, 173, 3, 54, 4, 21, 4, 42]
abbrev dktX3_weight_1 : List UInt8 := dkwX3_weight_1 ++ dktX3_weight_2
def dkwX3_weight_0 : List UInt8 := [42, 3, 181, 0, 103, 42, 27, 28, 182, 1, 51, 154, 0, 10, 42, 4, 182, 1, 33, 133, 173, 42]
abbrev dktX3_weight_0 : List UInt8 := dkwX3_weight_0 ++ dktX3_weight_1
theorem dksX3_weight_0 : cX3_weight.data.toList.drop 0 = dktX3_weight_0 := by decide +kernel
theorem dksX3_weight_1 : cX3_weight.data.toList.drop 22 = dktX3_weight_1 := dk_seg dksX3_weight_0 22 rfl rfl
theorem dksX3_weight_2 : cX3_weight.data.toList.drop 45 = dktX3_weight_2 := dk_seg dksX3_weight_1 23 rfl rfl
theorem dksX3_weight_3 : cX3_weight.data.toList.drop 69 = dktX3_weight_3 := dk_seg dksX3_weight_2 24 rfl rfl
theorem dksX3_weight_4 : cX3_weight.data.toList.drop 93 = dktX3_weight_4 := dk_seg dksX3_weight_3 24 rfl rfl
theorem dksX3_weight_5 : cX3_weight.data.toList.drop 117 = dktX3_weight_5 := dk_seg dksX3_weight_4 24 rfl rfl
theorem dX3_weight_0 : decode cX3_weight 0 = .ok (.aload_n 0, 1) := dk_42 (dk_at dksX3_weight_0 0 rfl rfl)
theorem dX3_weight_1 : decode cX3_weight 1 = .ok (.iconst 0, 1) := dk_3 (dk_at dksX3_weight_0 1 rfl rfl)
theorem dX3_weight_2 : decode cX3_weight 2 = .ok (.putfield 103, 3) := dk_181 0 103 (dk_at dksX3_weight_0 2 rfl rfl)
theorem dX3_weight_5 : decode cX3_weight 5 = .ok (.aload_n 0, 1) := dk_42 (dk_at dksX3_weight_0 5 rfl rfl)
theorem dX3_weight_6 : decode cX3_weight 6 = .ok (.iload_n 1, 1) := dk_27 (dk_at dksX3_weight_0 6 rfl rfl)
theorem dX3_weight_7 : decode cX3_weight 7 = .ok (.iload_n 2, 1) := dk_28 (dk_at dksX3_weight_0 7 rfl rfl)
theorem dX3_weight_8 : decode cX3_weight 8 = .ok (.invokevirtual 307, 3) := dk_182 1 51 (dk_at dksX3_weight_0 8 rfl rfl)
theorem dX3_weight_11 : decode cX3_weight 11 = .ok (.ifCond .ne 10, 3) := dk_154 0 10 (dk_at dksX3_weight_0 11 rfl rfl)
theorem dX3_weight_14 : decode cX3_weight 14 = .ok (.aload_n 0, 1) := dk_42 (dk_at dksX3_weight_0 14 rfl rfl)
theorem dX3_weight_15 : decode cX3_weight 15 = .ok (.iconst 1, 1) := dk_4 (dk_at dksX3_weight_0 15 rfl rfl)
theorem dX3_weight_16 : decode cX3_weight 16 = .ok (.invokevirtual 289, 3) := dk_182 1 33 (dk_at dksX3_weight_0 16 rfl rfl)
theorem dX3_weight_19 : decode cX3_weight 19 = .ok (.i2l, 1) := dk_133 (dk_at dksX3_weight_0 19 rfl rfl)
theorem dX3_weight_20 : decode cX3_weight 20 = .ok (.lreturn, 1) := dk_173 (dk_at dksX3_weight_0 20 rfl rfl)
theorem dX3_weight_21 : decode cX3_weight 21 = .ok (.aload_n 0, 1) := dk_42 (dk_at dksX3_weight_0 21 rfl rfl)
theorem dX3_weight_22 : decode cX3_weight 22 = .ok (.invokevirtual 311, 3) := dk_182 1 55 (dk_at dksX3_weight_1 0 rfl rfl)
theorem dX3_weight_25 : decode cX3_weight 25 = .ok (.ifCond .eq 10, 3) := dk_153 0 10 (dk_at dksX3_weight_1 3 rfl rfl)
theorem dX3_weight_28 : decode cX3_weight 28 = .ok (.aload_n 0, 1) := dk_42 (dk_at dksX3_weight_1 6 rfl rfl)
theorem dX3_weight_29 : decode cX3_weight 29 = .ok (.invokevirtual 314, 3) := dk_182 1 58 (dk_at dksX3_weight_1 7 rfl rfl)
theorem dX3_weight_32 : decode cX3_weight 32 = .ok (.ifCond .ne 7, 3) := dk_154 0 7 (dk_at dksX3_weight_1 10 rfl rfl)
theorem dX3_weight_35 : decode cX3_weight 35 = .ok (.ldc2_w 317, 3) := dk_20 1 61 (dk_at dksX3_weight_1 13 rfl rfl)
theorem dX3_weight_38 : decode cX3_weight 38 = .ok (.lreturn, 1) := dk_173 (dk_at dksX3_weight_1 16 rfl rfl)
theorem dX3_weight_39 : decode cX3_weight 39 = .ok (.iconst 0, 1) := dk_3 (dk_at dksX3_weight_1 17 rfl rfl)
theorem dX3_weight_40 : decode cX3_weight 40 = .ok (.istore 4, 2) := dk_54 4 (dk_at dksX3_weight_1 18 rfl rfl)
theorem dX3_weight_42 : decode cX3_weight 42 = .ok (.iload 4, 2) := dk_21 4 (dk_at dksX3_weight_1 20 rfl rfl)
theorem dX3_weight_44 : decode cX3_weight 44 = .ok (.aload_n 0, 1) := dk_42 (dk_at dksX3_weight_1 22 rfl rfl)
theorem dX3_weight_45 : decode cX3_weight 45 = .ok (.getfield 186, 3) := dk_180 0 186 (dk_at dksX3_weight_2 0 rfl rfl)
theorem dX3_weight_48 : decode cX3_weight 48 = .ok (.if_icmp .ge 72, 3) := dk_162 0 72 (dk_at dksX3_weight_2 3 rfl rfl)
theorem dX3_weight_51 : decode cX3_weight 51 = .ok (.iload_n 1, 1) := dk_27 (dk_at dksX3_weight_2 6 rfl rfl)
theorem dX3_weight_52 : decode cX3_weight 52 = .ok (.ifCond .eq 10, 3) := dk_153 0 10 (dk_at dksX3_weight_2 7 rfl rfl)
theorem dX3_weight_55 : decode cX3_weight 55 = .ok (.aload_n 0, 1) := dk_42 (dk_at dksX3_weight_2 10 rfl rfl)
theorem dX3_weight_56 : decode cX3_weight 56 = .ok (.getfield 40, 3) := dk_180 0 40 (dk_at dksX3_weight_2 11 rfl rfl)
theorem dX3_weight_59 : decode cX3_weight 59 = .ok (.goto 7, 3) := dk_167 0 7 (dk_at dksX3_weight_2 14 rfl rfl)
theorem dX3_weight_62 : decode cX3_weight 62 = .ok (.aload_n 0, 1) := dk_42 (dk_at dksX3_weight_2 17 rfl rfl)
theorem dX3_weight_63 : decode cX3_weight 63 = .ok (.getfield 43, 3) := dk_180 0 43 (dk_at dksX3_weight_2 18 rfl rfl)
theorem dX3_weight_66 : decode cX3_weight 66 = .ok (.iload 4, 2) := dk_21 4 (dk_at dksX3_weight_2 21 rfl rfl)
theorem dX3_weight_68 : decode cX3_weight 68 = .ok (.iaload, 1) := dk_46 (dk_at dksX3_weight_2 23 rfl rfl)
theorem dX3_weight_69 : decode cX3_weight 69 = .ok (.iload_n 2, 1) := dk_28 (dk_at dksX3_weight_3 0 rfl rfl)
theorem dX3_weight_70 : decode cX3_weight 70 = .ok (.if_icmp .ne 44, 3) := dk_160 0 44 (dk_at dksX3_weight_3 1 rfl rfl)
theorem dX3_weight_73 : decode cX3_weight 73 = .ok (.iload_n 1, 1) := dk_27 (dk_at dksX3_weight_3 4 rfl rfl)
theorem dX3_weight_74 : decode cX3_weight 74 = .ok (.ifCond .eq 13, 3) := dk_153 0 13 (dk_at dksX3_weight_3 5 rfl rfl)
theorem dX3_weight_77 : decode cX3_weight 77 = .ok (.aload_n 0, 1) := dk_42 (dk_at dksX3_weight_3 8 rfl rfl)
theorem dX3_weight_78 : decode cX3_weight 78 = .ok (.getfield 50, 3) := dk_180 0 50 (dk_at dksX3_weight_3 9 rfl rfl)
theorem dX3_weight_81 : decode cX3_weight 81 = .ok (.iload 4, 2) := dk_21 4 (dk_at dksX3_weight_3 12 rfl rfl)
theorem dX3_weight_83 : decode cX3_weight 83 = .ok (.laload, 1) := dk_47 (dk_at dksX3_weight_3 14 rfl rfl)
theorem dX3_weight_84 : decode cX3_weight 84 = .ok (.goto 10, 3) := dk_167 0 10 (dk_at dksX3_weight_3 15 rfl rfl)
theorem dX3_weight_87 : decode cX3_weight 87 = .ok (.aload_n 0, 1) := dk_42 (dk_at dksX3_weight_3 18 rfl rfl)
theorem dX3_weight_88 : decode cX3_weight 88 = .ok (.getfield 53, 3) := dk_180 0 53 (dk_at dksX3_weight_3 19 rfl rfl)
theorem dX3_weight_91 : decode cX3_weight 91 = .ok (.iload 4, 2) := dk_21 4 (dk_at dksX3_weight_3 22 rfl rfl)
theorem dX3_weight_93 : decode cX3_weight 93 = .ok (.laload, 1) := dk_47 (dk_at dksX3_weight_4 0 rfl rfl)
theorem dX3_weight_94 : decode cX3_weight 94 = .ok (.iload_n 1, 1) := dk_27 (dk_at dksX3_weight_4 1 rfl rfl)
theorem dX3_weight_95 : decode cX3_weight 95 = .ok (.ifCond .eq 10, 3) := dk_153 0 10 (dk_at dksX3_weight_4 2 rfl rfl)
theorem dX3_weight_98 : decode cX3_weight 98 = .ok (.aload_n 0, 1) := dk_42 (dk_at dksX3_weight_4 5 rfl rfl)
theorem dX3_weight_99 : decode cX3_weight 99 = .ok (.getfield 215, 3) := dk_180 0 215 (dk_at dksX3_weight_4 6 rfl rfl)
theorem dX3_weight_102 : decode cX3_weight 102 = .ok (.goto 7, 3) := dk_167 0 7 (dk_at dksX3_weight_4 9 rfl rfl)
theorem dX3_weight_105 : decode cX3_weight 105 = .ok (.aload_n 0, 1) := dk_42 (dk_at dksX3_weight_4 12 rfl rfl)
theorem dX3_weight_106 : decode cX3_weight 106 = .ok (.getfield 219, 3) := dk_180 0 219 (dk_at dksX3_weight_4 13 rfl rfl)
theorem dX3_weight_109 : decode cX3_weight 109 = .ok (.iload_n 3, 1) := dk_29 (dk_at dksX3_weight_4 16 rfl rfl)
theorem dX3_weight_110 : decode cX3_weight 110 = .ok (.invokestatic 319, 3) := dk_184 1 63 (dk_at dksX3_weight_4 17 rfl rfl)
theorem dX3_weight_113 : decode cX3_weight 113 = .ok (.lreturn, 1) := dk_173 (dk_at dksX3_weight_4 20 rfl rfl)
theorem dX3_weight_114 : decode cX3_weight 114 = .ok (.iinc 4 1, 3) := dk_132 4 1 (dk_at dksX3_weight_4 21 rfl rfl)
theorem dX3_weight_117 : decode cX3_weight 117 = .ok (.goto (-75), 3) := dk_167 255 181 (dk_at dksX3_weight_5 0 rfl rfl)
theorem dX3_weight_120 : decode cX3_weight 120 = .ok (.iload_n 3, 1) := dk_29 (dk_at dksX3_weight_5 3 rfl rfl)
theorem dX3_weight_121 : decode cX3_weight 121 = .ok (.ifCond .eq 7, 3) := dk_153 0 7 (dk_at dksX3_weight_5 4 rfl rfl)
theorem dX3_weight_124 : decode cX3_weight 124 = .ok (.lconst 0, 1) := dk_9 (dk_at dksX3_weight_5 7 rfl rfl)
theorem dX3_weight_125 : decode cX3_weight 125 = .ok (.goto 4, 3) := dk_167 0 4 (dk_at dksX3_weight_5 8 rfl rfl)
theorem dX3_weight_128 : decode cX3_weight 128 = .ok (.lconst 1, 1) := dk_10 (dk_at dksX3_weight_5 11 rfl rfl)
theorem dX3_weight_129 : decode cX3_weight 129 = .ok (.lreturn, 1) := dk_173 (dk_at dksX3_weight_5 12 rfl rfl)
/-- PackingDuelModel.weight(ZIZ)J -/
def zb213 (G : zPg) (C : zO) (args : List Value) (Q : zQ) (Y : zY) (σ : zS) : Prop := ∃ (a0 : Nat) (x1 : Int32) (x2 : Int32) (x3 : Int32), args = [.ref a0, .int x1, .int x2, .int x3] ∧ (zput σ G.1 (some a0) 4 5 (.int (0 : Int32)) (fun s1 => zrc s1 (some a0) 4 (fun a12 => zcl C 188 [.ref a12, .int x1, .int x2] Y s1 (zqI (fun v9 s10 => ((¬ v9 = 0) → zrc s10 (some a0) 4 (fun a20 => zcl C 196 [.ref a20] Y s10 (zqI (fun v17 s18 => zJ (fun  (s24 : zS) => Q (some (.long (-1000000000 : Int64))) s24) (fun (j25 : zS → Prop) => ((v17 = 0) → j25 s18) ∧ ((¬ v17 = 0) → zrc s18 (some a0) 4 (fun a30 => zcl C 197 [.ref a30] Y s18 (zqI (fun v27 s28 => ((¬ v27 = 0) → ∃ n, zIt (fun _ _ => False) (fun rec37 (p35 : Int32) (s36 : zS) => zgI s36 (some a0) 4 15 (fun v38 => ((v38 ≤ p35) → zJ (fun (p45 : Int64) (s46 : zS) => Q (some (.long p45)) s46) (fun (j47 : Int64 → zS → Prop) => ((x3 = 0) → j47 (1 : Int64) s36) ∧ ((¬ x3 = 0) → j47 (0 : Int64) s36))) ∧ ((¬ v38 ≤ p35) → zJ (fun (p49 : Option Nat) (s50 : zS) => zaI s50 0 p49 p35 (fun v58 => ((¬ v58 = x2) → (∀ v61 : Int32, v61 = p35 + (1 : Int32) → rec37 v61 s50)) ∧ ((v58 = x2) → zJ (fun (p63 : Int64) (s64 : zS) => zJ (fun (p66 : Int64) (s67 : zS) => zcl C 210 [.long p63, .long p66, .int x3] Y s67 (zqL (fun v69 s70 => Q (some (.long v69)) s70))) (fun (j68 : Int64 → zS → Prop) => ((x1 = 0) → zgL s64 (some a0) 4 20 (fun v73 => j68 v73 s64)) ∧ ((¬ x1 = 0) → zgL s64 (some a0) 4 19 (fun v79 => j68 v79 s64)))) (fun (j65 : Int64 → zS → Prop) => ((x1 = 0) → zgR s50 (some a0) 4 18 (fun v86 => zaL s50 v86 p35 (fun v98 => j65 v98 s50))) ∧ ((¬ x1 = 0) → zgR s50 (some a0) 4 17 (fun v100 => zaL s50 v100 p35 (fun v112 => j65 v112 s50))))))) (fun (j51 : Option Nat → zS → Prop) => ((x1 = 0) → zgR s36 (some a0) 4 14 (fun v115 => j51 v115 s36)) ∧ ((¬ x1 = 0) → zgR s36 (some a0) 4 13 (fun v121 => j51 v121 s36)))))) n (0 : Int32) s28) ∧ ((v27 = 0) → j25 s28)))))))))) ∧ ((v9 = 0) → zrc s10 (some a0) 4 (fun a131 => zcl C 163 [.ref a131, .int (1 : Int32)] Y s10 (zqI (fun v128 s129 => Q (some (.long v128.toInt64)) s129)))))))))
set_option maxHeartbeats 4000000 in
theorem wk213 {l : Launch} {g : zG} {d : Nat} {C : zO} (hG : zGk g) (hC : zSound l g d C) {args : List Value} {Q : zQ} {Y : zY} {σ : zS} (hw : zb213 (zpg g) C args Q Y σ) : zMet l g (d + 1) (⟨"PackingDuelModel", "weight", "(ZIZ)J"⟩, Cond.code ⟨"PackingDuelModel", "weight", "(ZIZ)J"⟩ prog_28_method_77_code 5 (Option.some FieldType.long)) args σ Q Y := by
  obtain ⟨a0, x1, x2, x3, rfl, hw⟩ := hw
  refine zof hG (by decide +kernel) [false, false, false, false] ⟨rfl, rfl, rfl, rfl, trivial⟩ (Nat.le_of_ble_eq_true rfl) (ls := [some (va_rf (some a0)), some (.int x1), some (.int x2), some (.int x3), none]) rfl ?_
  intro X hX hR hTb hd1 hd2 hl hg hnm
  subst hl
  subst hg
  have hd : zDep X d := ⟨hd1, hd2⟩
  refine z_aload_n hX dX3_weight_0 rfl (i := 0) rfl ?_
  refine z_iconst hX (v := (0 : Int32)) dX3_weight_1 (by decide) ?_
  obtain ⟨a3, f4, r5, g6, m7, l8, hw⟩ := hw
  refine z_put hX zc4 (k := 5) dX3_weight_2 (Nat.le_of_ble_eq_true rfl) (zlk hX q2474) rfl rfl rfl r5 g6 m7 l8 (z_nm (fun s1 e2 => ?_))
  have hw := hw s1 e2
  refine z_aload_n hX dX3_weight_5 rfl (i := 0) rfl ?_
  refine z_iload_n hX dX3_weight_6 rfl (i := 1) rfl ?_
  refine z_iload_n hX dX3_weight_7 rfl (i := 2) rfl ?_
  obtain ⟨a12, f13, r14, m15, hw⟩ := hw
  refine z_invV hX hd r14 (ci := 4) rfl rfl m15 dX3_weight_8 (hC 188 _ zm188 _ _ _ _ hw) q2719 q2721 qs64 zh7 q2722 q136 zn188 rfl (Nat.le_of_ble_eq_true rfl) (st := []) rfl (zcs8 (Nat.le_of_ble_eq_true rfl)) rfl (zkI (fun v9 s10 hw => ?_)) (zout hX hR hTb)
  refine z_if_ne hX dX3_weight_11 (tgt := 21) rfl (fun c16 => ?_) (fun c16 => ?_)
  · have hw := hw.1 c16
    refine z_aload_n hX dX3_weight_21 rfl (i := 0) rfl ?_
    obtain ⟨a20, f21, r22, m23, hw⟩ := hw
    refine z_invV hX hd r22 (ci := 4) rfl rfl m23 dX3_weight_22 (hC 196 _ zm196 _ _ _ _ hw) q2749 q2751 qs68 zh7 q2752 q136 zn196 rfl (Nat.le_of_ble_eq_true rfl) (st := []) rfl (zcs8 (Nat.le_of_ble_eq_true rfl)) rfl (zkI (fun v17 s18 hw => ?_)) (zout hX hR hTb)
    refine zJ_w (P := fun (j : zS → Prop) => ∀  (s24 : zS), j  s24 → zW X s24 35 [none, none, none, none, none] []) hw (fun  s24 hw => ?_) (fun j25 hj25 hw => ?_)
    · refine z_ldc2 hX dX3_weight_35 q2805 ?_
      exact z_lreturn hX hR dX3_weight_38 hw
    · refine z_if_eq hX dX3_weight_25 (tgt := 35) rfl (fun c26 => ?_) (fun c26 => ?_)
      · have hw := hw.1 c26
        refine z_sub (ls' := [none, none, none, none, none]) (zsN (zsN (zsN (zsN (zsN (zs0)))))) ?_
        exact hj25  _ hw
      · have hw := hw.2 c26
        refine z_aload_n hX dX3_weight_28 rfl (i := 0) rfl ?_
        obtain ⟨a30, f31, r32, m33, hw⟩ := hw
        refine z_invV hX hd r32 (ci := 4) rfl rfl m33 dX3_weight_29 (hC 197 _ zm197 _ _ _ _ hw) q2753 q2755 qs69 zh7 q2756 q136 zn197 rfl (Nat.le_of_ble_eq_true rfl) (st := []) rfl (zcs8 (Nat.le_of_ble_eq_true rfl)) rfl (zkI (fun v27 s28 hw => ?_)) (zout hX hR hTb)
        refine z_if_ne hX dX3_weight_32 (tgt := 39) rfl (fun c34 => ?_) (fun c34 => ?_)
        · have hw := hw.1 c34
          refine z_iconst hX (v := (0 : Int32)) dX3_weight_39 (by decide) ?_
          refine z_istore hX dX3_weight_40 (i := 4) (Nat.le_of_ble_eq_true rfl) rfl (ls2 := [some (va_rf (some a0)), some (.int x1), some (.int x2), some (.int x3), some (.int (0 : Int32))]) rfl ?_
          obtain ⟨n127, hw⟩ := hw
          refine zIt_w (P := fun (j : Int32 → zS → Prop) => ∀ (p35 : Int32) (s36 : zS), j p35 s36 → zW X s36 42 [some (va_rf (some a0)), some (.int x1), some (.int x2), some (.int x3), some (.int p35)] []) (fun _ _ h => h.elim) (fun rec37 hrec37 p35 s36 hw => ?_) n127 _ _ hw
          refine z_iload hX dX3_weight_42 (i := 4) rfl ?_
          refine z_aload_n hX dX3_weight_44 rfl (i := 0) rfl ?_
          obtain ⟨a39, f40, v38, r41, m42, e43, hw⟩ := hw
          refine z_get hX zc4 (k := 15) dX3_weight_45 (Nat.le_of_ble_eq_true rfl) (zlk hX q2484) r41 m42 e43 ?_
          refine z_icmp_ge hX dX3_weight_48 (tgt := 120) rfl (fun c44 => ?_) (fun c44 => ?_)
          · have hw := hw.1 c44
            refine z_iload_n hX dX3_weight_120 rfl (i := 3) rfl ?_
            refine zJ_w (P := fun (j : Int64 → zS → Prop) => ∀ (p45 : Int64) (s46 : zS), j p45 s46 → zW X s46 129 [none, none, none, none, none] [.long p45]) hw (fun p45 s46 hw => ?_) (fun j47 hj47 hw => ?_)
            · exact z_lreturn hX hR dX3_weight_129 hw
            · refine z_if_eq hX dX3_weight_121 (tgt := 128) rfl (fun c48 => ?_) (fun c48 => ?_)
              · have hw := hw.1 c48
                refine z_lconst hX (v := (1 : Int64)) dX3_weight_128 (by decide) ?_
                refine z_sub (ls' := [none, none, none, none, none]) (zsN (zsN (zsN (zsN (zsN (zs0)))))) ?_
                exact hj47 _ _ hw
              · have hw := hw.2 c48
                refine z_lconst hX (v := (0 : Int64)) dX3_weight_124 (by decide) ?_
                refine z_goto hX dX3_weight_125 (tgt := 129) rfl ?_
                refine z_sub (ls' := [none, none, none, none, none]) (zsN (zsN (zsN (zsN (zsN (zs0)))))) ?_
                exact hj47 _ _ hw
          · have hw := hw.2 c44
            refine z_iload_n hX dX3_weight_51 rfl (i := 1) rfl ?_
            refine zJ_w (P := fun (j : Option Nat → zS → Prop) => ∀ (p49 : Option Nat) (s50 : zS), j p49 s50 → zW X s50 66 [some (va_rf (some a0)), some (.int x1), some (.int x2), some (.int x3), some (.int p35)] [va_rf p49]) hw (fun p49 s50 hw => ?_) (fun j51 hj51 hw => ?_)
            · refine z_iload hX dX3_weight_66 (i := 4) rfl ?_
              obtain ⟨a52, n53, f54, r55, m56, i57, hw⟩ := hw
              refine z_iald hX dX3_weight_68 r55 m56 i57 ?_
              revert hw
              generalize f54 (Int32.toNatClampNeg p35) = v58
              intro hw
              refine z_iload_n hX dX3_weight_69 rfl (i := 2) rfl ?_
              refine z_icmp_ne hX dX3_weight_70 (tgt := 114) rfl (fun c60 => ?_) (fun c60 => ?_)
              · have hw := hw.1 c60
                obtain ⟨v61, e62⟩ : ∃ y : Int32, y = p35 + (1 : Int32) := ⟨_, rfl⟩
                refine z_iinc hX dX3_weight_114 (i := 4) (v := v61) rfl (by rw [e62]; rfl) (Nat.le_of_ble_eq_true rfl) rfl (ls2 := [some (va_rf (some a0)), some (.int x1), some (.int x2), some (.int x3), some (.int v61)]) rfl ?_
                have hw := hw v61 e62
                refine z_goto hX dX3_weight_117 (tgt := 42) rfl ?_
                exact hrec37 _ _ hw
              · have hw := hw.2 c60
                refine z_iload_n hX dX3_weight_73 rfl (i := 1) rfl ?_
                refine zJ_w (P := fun (j : Int64 → zS → Prop) => ∀ (p63 : Int64) (s64 : zS), j p63 s64 → zW X s64 94 [some (va_rf (some a0)), some (.int x1), none, some (.int x3), none] [.long p63]) hw (fun p63 s64 hw => ?_) (fun j65 hj65 hw => ?_)
                · refine z_iload_n hX dX3_weight_94 rfl (i := 1) rfl ?_
                  refine zJ_w (P := fun (j : Int64 → zS → Prop) => ∀ (p66 : Int64) (s67 : zS), j p66 s67 → zW X s67 109 [none, none, none, some (.int x3), none] [.long p66, .long p63]) hw (fun p66 s67 hw => ?_) (fun j68 hj68 hw => ?_)
                  · refine z_iload_n hX dX3_weight_109 rfl (i := 3) rfl ?_
                    refine z_invS hX hd dX3_weight_110 (hC 210 _ zm210 _ _ _ _ hw) q2806 q2807 zh7 q2808 q136 zn210 rfl (Nat.le_of_ble_eq_true rfl) (st := []) rfl (zcs8 (Nat.le_of_ble_eq_true rfl)) rfl (zkL (fun v69 s70 hw => ?_)) (zout hX hR hTb)
                    exact z_lreturn hX hR dX3_weight_113 hw
                  · refine z_if_eq hX dX3_weight_95 (tgt := 105) rfl (fun c72 => ?_) (fun c72 => ?_)
                    · have hw := hw.1 c72
                      refine z_aload_n hX dX3_weight_105 rfl (i := 0) rfl ?_
                      obtain ⟨a74, f75, v73, r76, m77, e78, hw⟩ := hw
                      refine z_get hX zc4 (k := 20) dX3_weight_106 (Nat.le_of_ble_eq_true rfl) (zlk hX q2489) r76 m77 e78 ?_
                      refine z_sub (ls' := [none, none, none, some (.int x3), none]) (zsN (zsN (zsN (zsS (zsN (zs0)))))) ?_
                      exact hj68 _ _ hw
                    · have hw := hw.2 c72
                      refine z_aload_n hX dX3_weight_98 rfl (i := 0) rfl ?_
                      obtain ⟨a80, f81, v79, r82, m83, e84, hw⟩ := hw
                      refine z_get hX zc4 (k := 19) dX3_weight_99 (Nat.le_of_ble_eq_true rfl) (zlk hX q2488) r82 m83 e84 ?_
                      refine z_goto hX dX3_weight_102 (tgt := 109) rfl ?_
                      refine z_sub (ls' := [none, none, none, some (.int x3), none]) (zsN (zsN (zsN (zsS (zsN (zs0)))))) ?_
                      exact hj68 _ _ hw
                · refine z_if_eq hX dX3_weight_74 (tgt := 87) rfl (fun c85 => ?_) (fun c85 => ?_)
                  · have hw := hw.1 c85
                    refine z_aload_n hX dX3_weight_87 rfl (i := 0) rfl ?_
                    obtain ⟨a87, f88, v86, r89, m90, e91, hw⟩ := hw
                    refine z_get hX zc4 (k := 18) dX3_weight_88 (Nat.le_of_ble_eq_true rfl) (zlk hX q2487) r89 m90 e91 ?_
                    refine z_iload hX dX3_weight_91 (i := 4) rfl ?_
                    obtain ⟨a92, n93, f94, r95, m96, i97, hw⟩ := hw
                    refine z_lald hX dX3_weight_93 r95 m96 i97 ?_
                    revert hw
                    generalize f94 (Int32.toNatClampNeg p35) = v98
                    intro hw
                    refine z_sub (ls' := [some (va_rf (some a0)), some (.int x1), none, some (.int x3), none]) (zsS (zsS (zsN (zsS (zsN (zs0)))))) ?_
                    exact hj65 _ _ hw
                  · have hw := hw.2 c85
                    refine z_aload_n hX dX3_weight_77 rfl (i := 0) rfl ?_
                    obtain ⟨a101, f102, v100, r103, m104, e105, hw⟩ := hw
                    refine z_get hX zc4 (k := 17) dX3_weight_78 (Nat.le_of_ble_eq_true rfl) (zlk hX q2486) r103 m104 e105 ?_
                    refine z_iload hX dX3_weight_81 (i := 4) rfl ?_
                    obtain ⟨a106, n107, f108, r109, m110, i111, hw⟩ := hw
                    refine z_lald hX dX3_weight_83 r109 m110 i111 ?_
                    revert hw
                    generalize f108 (Int32.toNatClampNeg p35) = v112
                    intro hw
                    refine z_goto hX dX3_weight_84 (tgt := 94) rfl ?_
                    refine z_sub (ls' := [some (va_rf (some a0)), some (.int x1), none, some (.int x3), none]) (zsS (zsS (zsN (zsS (zsN (zs0)))))) ?_
                    exact hj65 _ _ hw
            · refine z_if_eq hX dX3_weight_52 (tgt := 62) rfl (fun c114 => ?_) (fun c114 => ?_)
              · have hw := hw.1 c114
                refine z_aload_n hX dX3_weight_62 rfl (i := 0) rfl ?_
                obtain ⟨a116, f117, v115, r118, m119, e120, hw⟩ := hw
                refine z_get hX zc4 (k := 14) dX3_weight_63 (Nat.le_of_ble_eq_true rfl) (zlk hX q2483) r118 m119 e120 ?_
                exact hj51 _ _ hw
              · have hw := hw.2 c114
                refine z_aload_n hX dX3_weight_55 rfl (i := 0) rfl ?_
                obtain ⟨a122, f123, v121, r124, m125, e126, hw⟩ := hw
                refine z_get hX zc4 (k := 13) dX3_weight_56 (Nat.le_of_ble_eq_true rfl) (zlk hX q2482) r124 m125 e126 ?_
                refine z_goto hX dX3_weight_59 (tgt := 66) rfl ?_
                exact hj51 _ _ hw
        · have hw := hw.2 c34
          refine z_sub (ls' := [none, none, none, none, none]) (zsN (zsN (zsN (zsN (zsN (zs0)))))) ?_
          exact hj25  _ hw
  · have hw := hw.2 c16
    refine z_aload_n hX dX3_weight_14 rfl (i := 0) rfl ?_
    refine z_iconst hX (v := (1 : Int32)) dX3_weight_15 (by decide) ?_
    obtain ⟨a131, f132, r133, m134, hw⟩ := hw
    refine z_invV hX hd r133 (ci := 4) rfl rfl m134 dX3_weight_16 (hC 163 _ zm163 _ _ _ _ hw) q2620 q2622 qs49 zh7 q2623 q136 zn163 rfl (Nat.le_of_ble_eq_true rfl) (st := []) rfl (zcs8 (Nat.le_of_ble_eq_true rfl)) rfl (zkI (fun v128 s129 hw => ?_)) (zout hX hR hTb)
    refine z_i2l hX dX3_weight_19 ?_
    exact z_lreturn hX hR dX3_weight_20 hw
abbrev cX3_goodKernels : ByteArray := prog_28_method_78_code
def yX3_goodKernels : MethodName := ⟨RX3, "goodKernels", "()I"⟩
def dkwX3_goodKernels_0 : List UInt8 := [42, 3, 181, 0, 103, 42, 182, 0, 246, 42, 180, 0, 239, 172]
abbrev dktX3_goodKernels_0 : List UInt8 := dkwX3_goodKernels_0 ++ []
theorem dksX3_goodKernels_0 : cX3_goodKernels.data.toList.drop 0 = dktX3_goodKernels_0 := by decide +kernel
theorem dX3_goodKernels_0 : decode cX3_goodKernels 0 = .ok (.aload_n 0, 1) := dk_42 (dk_at dksX3_goodKernels_0 0 rfl rfl)
theorem dX3_goodKernels_1 : decode cX3_goodKernels 1 = .ok (.iconst 0, 1) := dk_3 (dk_at dksX3_goodKernels_0 1 rfl rfl)
theorem dX3_goodKernels_2 : decode cX3_goodKernels 2 = .ok (.putfield 103, 3) := dk_181 0 103 (dk_at dksX3_goodKernels_0 2 rfl rfl)
theorem dX3_goodKernels_5 : decode cX3_goodKernels 5 = .ok (.aload_n 0, 1) := dk_42 (dk_at dksX3_goodKernels_0 5 rfl rfl)
theorem dX3_goodKernels_6 : decode cX3_goodKernels 6 = .ok (.invokevirtual 246, 3) := dk_182 0 246 (dk_at dksX3_goodKernels_0 6 rfl rfl)
theorem dX3_goodKernels_9 : decode cX3_goodKernels 9 = .ok (.aload_n 0, 1) := dk_42 (dk_at dksX3_goodKernels_0 9 rfl rfl)
theorem dX3_goodKernels_10 : decode cX3_goodKernels 10 = .ok (.getfield 239, 3) := dk_180 0 239 (dk_at dksX3_goodKernels_0 10 rfl rfl)
theorem dX3_goodKernels_13 : decode cX3_goodKernels 13 = .ok (.ireturn, 1) := dk_172 (dk_at dksX3_goodKernels_0 13 rfl rfl)
/-- PackingDuelModel.goodKernels()I -/
def zb214 (G : zPg) (C : zO) (args : List Value) (Q : zQ) (Y : zY) (σ : zS) : Prop := ∃ (a0 : Nat), args = [.ref a0] ∧ (zput σ G.1 (some a0) 4 5 (.int (0 : Int32)) (fun s1 => zrc s1 (some a0) 4 (fun a12 => zcl C 198 [.ref a12] Y s1 (zqV (fun s10 => zgI s10 (some a0) 4 23 (fun v16 => Q (some (.int v16)) s10))))))
set_option maxHeartbeats 4000000 in
theorem wk214 {l : Launch} {g : zG} {d : Nat} {C : zO} (hG : zGk g) (hC : zSound l g d C) {args : List Value} {Q : zQ} {Y : zY} {σ : zS} (hw : zb214 (zpg g) C args Q Y σ) : zMet l g (d + 1) (⟨"PackingDuelModel", "goodKernels", "()I"⟩, Cond.code ⟨"PackingDuelModel", "goodKernels", "()I"⟩ prog_28_method_78_code 1 (Option.some FieldType.int)) args σ Q Y := by
  obtain ⟨a0, rfl, hw⟩ := hw
  refine zof hG (by decide +kernel) [false] ⟨rfl, trivial⟩ (Nat.le_of_ble_eq_true rfl) (ls := [some (va_rf (some a0))]) rfl ?_
  intro X hX hR hTb hd1 hd2 hl hg hnm
  subst hl
  subst hg
  have hd : zDep X d := ⟨hd1, hd2⟩
  refine z_aload_n hX dX3_goodKernels_0 rfl (i := 0) rfl ?_
  refine z_iconst hX (v := (0 : Int32)) dX3_goodKernels_1 (by decide) ?_
  obtain ⟨a3, f4, r5, g6, m7, l8, hw⟩ := hw
  refine z_put hX zc4 (k := 5) dX3_goodKernels_2 (Nat.le_of_ble_eq_true rfl) (zlk hX q2474) rfl rfl rfl r5 g6 m7 l8 (z_nm (fun s1 e2 => ?_))
  have hw := hw s1 e2
  refine z_aload_n hX dX3_goodKernels_5 rfl (i := 0) rfl ?_
  obtain ⟨a12, f13, r14, m15, hw⟩ := hw
  refine z_invV hX hd r14 (ci := 4) rfl rfl m15 dX3_goodKernels_6 (hC 198 _ zm198 _ _ _ _ hw) q2757 q2759 qs70 zh7 q2760 q136 zn198 rfl (Nat.le_of_ble_eq_true rfl) (st := []) rfl (zcs8 (Nat.le_of_ble_eq_true rfl)) rfl (zkV (fun s10 hw => ?_)) (zout hX hR hTb)
  refine z_aload_n hX dX3_goodKernels_9 rfl (i := 0) rfl ?_
  obtain ⟨a17, f18, v16, r19, m20, e21, hw⟩ := hw
  refine z_get hX zc4 (k := 23) dX3_goodKernels_10 (Nat.le_of_ble_eq_true rfl) (zlk hX q2492) r19 m20 e21 ?_
  exact z_ireturn hX hR dX3_goodKernels_13 rfl hw
abbrev cX3_game : ByteArray := prog_28_method_79_code
def yX3_game : MethodName := ⟨RX3, "game", "(I)I"⟩
def dkwX3_game_3 : List UInt8 := [42, 182, 1, 70, 172, 42, 180, 0, 9, 16, 10, 46, 172, 42, 4, 182, 1, 33, 172]
abbrev dktX3_game_3 : List UInt8 := dkwX3_game_3 ++ []
def dkwX3_game_2 : List UInt8 := [42, 180, 0, 9, 16, 6, 27, 96, 46, 172, 42, 42, 182, 1, 23, 182, 0, 125, 172, 42, 182, 1, 67, 172]
abbrev dktX3_game_2 : List UInt8 := dkwX3_game_2 ++ dktX3_game_3
def dkwX3_game_1 : List UInt8 := [170, 0, 0, 0, 0, 75, 0, 0, 0, 0, 0, 0, 0, 5, 0, 0, 0, 38, 0, 0, 0, 38, 0, 0, 0, 48, 0, 0, 0, 57, 0, 0, 0, 62, 0, 0, 0, 67]
abbrev dktX3_game_1 : List UInt8 := dkwX3_game_1 ++ dktX3_game_2
def dkwX3_game_0 : List UInt8 := [42, 3, 181, 0, 103, 27]
abbrev dktX3_game_0 : List UInt8 := dkwX3_game_0 ++ dktX3_game_1
theorem dksX3_game_0 : cX3_game.data.toList.drop 0 = dktX3_game_0 := by decide +kernel
theorem dksX3_game_1 : cX3_game.data.toList.drop 6 = dktX3_game_1 := dk_seg dksX3_game_0 6 rfl rfl
theorem dksX3_game_2 : cX3_game.data.toList.drop 44 = dktX3_game_2 := dk_seg dksX3_game_1 38 rfl rfl
theorem dksX3_game_3 : cX3_game.data.toList.drop 68 = dktX3_game_3 := dk_seg dksX3_game_2 24 rfl rfl
theorem dX3_game_0 : decode cX3_game 0 = .ok (.aload_n 0, 1) := dk_42 (dk_at dksX3_game_0 0 rfl rfl)
theorem dX3_game_1 : decode cX3_game 1 = .ok (.iconst 0, 1) := dk_3 (dk_at dksX3_game_0 1 rfl rfl)
theorem dX3_game_2 : decode cX3_game 2 = .ok (.putfield 103, 3) := dk_181 0 103 (dk_at dksX3_game_0 2 rfl rfl)
theorem dX3_game_5 : decode cX3_game 5 = .ok (.iload_n 1, 1) := dk_27 (dk_at dksX3_game_0 5 rfl rfl)
theorem dX3_game_6 : decode cX3_game 6 = .ok (.tableswitch 75 0 5 #[38, 38, 48, 57, 62, 67], 38) := by decide +kernel
theorem dX3_game_44 : decode cX3_game 44 = .ok (.aload_n 0, 1) := dk_42 (dk_at dksX3_game_2 0 rfl rfl)
theorem dX3_game_45 : decode cX3_game 45 = .ok (.getfield 9, 3) := dk_180 0 9 (dk_at dksX3_game_2 1 rfl rfl)
theorem dX3_game_48 : decode cX3_game 48 = .ok (.bipush 6, 2) := dk_16 6 (dk_at dksX3_game_2 4 rfl rfl)
theorem dX3_game_50 : decode cX3_game 50 = .ok (.iload_n 1, 1) := dk_27 (dk_at dksX3_game_2 6 rfl rfl)
theorem dX3_game_51 : decode cX3_game 51 = .ok (.iadd, 1) := dk_96 (dk_at dksX3_game_2 7 rfl rfl)
theorem dX3_game_52 : decode cX3_game 52 = .ok (.iaload, 1) := dk_46 (dk_at dksX3_game_2 8 rfl rfl)
theorem dX3_game_53 : decode cX3_game 53 = .ok (.ireturn, 1) := dk_172 (dk_at dksX3_game_2 9 rfl rfl)
theorem dX3_game_54 : decode cX3_game 54 = .ok (.aload_n 0, 1) := dk_42 (dk_at dksX3_game_2 10 rfl rfl)
theorem dX3_game_55 : decode cX3_game 55 = .ok (.aload_n 0, 1) := dk_42 (dk_at dksX3_game_2 11 rfl rfl)
theorem dX3_game_56 : decode cX3_game 56 = .ok (.invokevirtual 279, 3) := dk_182 1 23 (dk_at dksX3_game_2 12 rfl rfl)
theorem dX3_game_59 : decode cX3_game 59 = .ok (.invokevirtual 125, 3) := dk_182 0 125 (dk_at dksX3_game_2 15 rfl rfl)
theorem dX3_game_62 : decode cX3_game 62 = .ok (.ireturn, 1) := dk_172 (dk_at dksX3_game_2 18 rfl rfl)
theorem dX3_game_63 : decode cX3_game 63 = .ok (.aload_n 0, 1) := dk_42 (dk_at dksX3_game_2 19 rfl rfl)
theorem dX3_game_64 : decode cX3_game 64 = .ok (.invokevirtual 323, 3) := dk_182 1 67 (dk_at dksX3_game_2 20 rfl rfl)
theorem dX3_game_67 : decode cX3_game 67 = .ok (.ireturn, 1) := dk_172 (dk_at dksX3_game_2 23 rfl rfl)
theorem dX3_game_68 : decode cX3_game 68 = .ok (.aload_n 0, 1) := dk_42 (dk_at dksX3_game_3 0 rfl rfl)
theorem dX3_game_69 : decode cX3_game 69 = .ok (.invokevirtual 326, 3) := dk_182 1 70 (dk_at dksX3_game_3 1 rfl rfl)
theorem dX3_game_72 : decode cX3_game 72 = .ok (.ireturn, 1) := dk_172 (dk_at dksX3_game_3 4 rfl rfl)
theorem dX3_game_73 : decode cX3_game 73 = .ok (.aload_n 0, 1) := dk_42 (dk_at dksX3_game_3 5 rfl rfl)
theorem dX3_game_74 : decode cX3_game 74 = .ok (.getfield 9, 3) := dk_180 0 9 (dk_at dksX3_game_3 6 rfl rfl)
theorem dX3_game_77 : decode cX3_game 77 = .ok (.bipush 10, 2) := dk_16 10 (dk_at dksX3_game_3 9 rfl rfl)
theorem dX3_game_79 : decode cX3_game 79 = .ok (.iaload, 1) := dk_46 (dk_at dksX3_game_3 11 rfl rfl)
theorem dX3_game_80 : decode cX3_game 80 = .ok (.ireturn, 1) := dk_172 (dk_at dksX3_game_3 12 rfl rfl)
theorem dX3_game_81 : decode cX3_game 81 = .ok (.aload_n 0, 1) := dk_42 (dk_at dksX3_game_3 13 rfl rfl)
theorem dX3_game_82 : decode cX3_game 82 = .ok (.iconst 1, 1) := dk_4 (dk_at dksX3_game_3 14 rfl rfl)
theorem dX3_game_83 : decode cX3_game 83 = .ok (.invokevirtual 289, 3) := dk_182 1 33 (dk_at dksX3_game_3 15 rfl rfl)
theorem dX3_game_86 : decode cX3_game 86 = .ok (.ireturn, 1) := dk_172 (dk_at dksX3_game_3 18 rfl rfl)
/-- PackingDuelModel.game(I)I -/
def zb215 (G : zPg) (C : zO) (args : List Value) (Q : zQ) (Y : zY) (σ : zS) : Prop := ∃ (a0 : Nat) (x1 : Int32), args = [.ref a0, .int x1] ∧ (zput σ G.1 (some a0) 4 5 (.int (0 : Int32)) (fun s1 => zJ (fun  (s9 : zS) => zgR s9 (some a0) 4 0 (fun v11 => zaI s9 0 v11 ((6 : Int32) + x1) (fun v23 => Q (some (.int v23)) s9))) (fun (j10 : zS → Prop) => (x1.toInt < (0) ∨ (5) < x1.toInt → zrc s1 (some a0) 4 (fun a30 => zcl C 163 [.ref a30, .int (1 : Int32)] Y s1 (zqI (fun v27 s28 => Q (some (.int v27)) s28)))) ∧ (x1 = (0) → j10 s1) ∧ (x1 = (1) → j10 s1) ∧ (x1 = (2) → zrc s1 (some a0) 4 (fun a37 => zcl C 216 [.ref a37] Y s1 (zqI (fun v34 s35 => zrc s35 (some a0) 4 (fun a44 => zcl C 160 [.ref a44, .int v34] Y s35 (zqI (fun v41 s42 => Q (some (.int v41)) s42))))))) ∧ (x1 = (3) → zrc s1 (some a0) 4 (fun a51 => zcl C 217 [.ref a51] Y s1 (zqI (fun v48 s49 => Q (some (.int v48)) s49)))) ∧ (x1 = (4) → zrc s1 (some a0) 4 (fun a58 => zcl C 218 [.ref a58] Y s1 (zqI (fun v55 s56 => Q (some (.int v55)) s56)))) ∧ (x1 = (5) → zgR s1 (some a0) 4 0 (fun v62 => zaI s1 0 v62 (10 : Int32) (fun v74 => Q (some (.int v74)) s1))))))
set_option maxHeartbeats 4000000 in
theorem wk215 {l : Launch} {g : zG} {d : Nat} {C : zO} (hG : zGk g) (hC : zSound l g d C) {args : List Value} {Q : zQ} {Y : zY} {σ : zS} (hw : zb215 (zpg g) C args Q Y σ) : zMet l g (d + 1) (⟨"PackingDuelModel", "game", "(I)I"⟩, Cond.code ⟨"PackingDuelModel", "game", "(I)I"⟩ prog_28_method_79_code 2 (Option.some FieldType.int)) args σ Q Y := by
  obtain ⟨a0, x1, rfl, hw⟩ := hw
  refine zof hG (by decide +kernel) [false, false] ⟨rfl, rfl, trivial⟩ (Nat.le_of_ble_eq_true rfl) (ls := [some (va_rf (some a0)), some (.int x1)]) rfl ?_
  intro X hX hR hTb hd1 hd2 hl hg hnm
  subst hl
  subst hg
  have hd : zDep X d := ⟨hd1, hd2⟩
  refine z_aload_n hX dX3_game_0 rfl (i := 0) rfl ?_
  refine z_iconst hX (v := (0 : Int32)) dX3_game_1 (by decide) ?_
  obtain ⟨a3, f4, r5, g6, m7, l8, hw⟩ := hw
  refine z_put hX zc4 (k := 5) dX3_game_2 (Nat.le_of_ble_eq_true rfl) (zlk hX q2474) rfl rfl rfl r5 g6 m7 l8 (z_nm (fun s1 e2 => ?_))
  have hw := hw s1 e2
  refine z_iload_n hX dX3_game_5 rfl (i := 1) rfl ?_
  refine zJ_w (P := fun (j : zS → Prop) => ∀  (s9 : zS), j  s9 → zW X s9 44 [some (va_rf (some a0)), some (.int x1)] []) hw (fun  s9 hw => ?_) (fun j10 hj10 hw => ?_)
  · refine z_aload_n hX dX3_game_44 rfl (i := 0) rfl ?_
    obtain ⟨a12, f13, v11, r14, m15, e16, hw⟩ := hw
    refine z_get hX zc4 (k := 0) dX3_game_45 (Nat.le_of_ble_eq_true rfl) (zlk hX q2469) r14 m15 e16 ?_
    refine z_bipush hX (v := (6 : Int32)) dX3_game_48 (by decide) ?_
    refine z_iload_n hX dX3_game_50 rfl (i := 1) rfl ?_
    refine z_iadd hX dX3_game_51 ?_
    obtain ⟨a17, n18, f19, r20, m21, i22, hw⟩ := hw
    refine z_iald hX dX3_game_52 r20 m21 i22 ?_
    revert hw
    generalize f19 (Int32.toNatClampNeg ((6 : Int32) + x1)) = v23
    intro hw
    exact z_ireturn hX hR dX3_game_53 rfl hw
  · rcases zsw x1 0 6 (by decide) (by decide) with c25 | ⟨j26, hj26, c25⟩
    · have c25 : x1.toInt < (0) ∨ (5) < x1.toInt := by omega
      refine z_tableOut hX dX3_game_6 c25 (tgt := 81) rfl ?_
      have hw := hw.1 c25
      refine z_aload_n hX dX3_game_81 rfl (i := 0) rfl ?_
      refine z_iconst hX (v := (1 : Int32)) dX3_game_82 (by decide) ?_
      obtain ⟨a30, f31, r32, m33, hw⟩ := hw
      refine z_invV hX hd r32 (ci := 4) rfl rfl m33 dX3_game_83 (hC 163 _ zm163 _ _ _ _ hw) q2620 q2622 qs49 zh7 q2623 q136 zn163 rfl (Nat.le_of_ble_eq_true rfl) (st := []) rfl (zcs8 (Nat.le_of_ble_eq_true rfl)) rfl (zkI (fun v27 s28 hw => ?_)) (zout hX hR hTb)
      exact z_ireturn hX hR dX3_game_86 rfl hw
    · match j26, hj26, c25 with
      | 0, _, c25 =>
        have c25 : x1 = (0) := c25
        refine z_tableIn hX dX3_game_6 (by rw [c25]; decide) (by rw [c25]; decide) (off := 38) (by rw [c25]; rfl) (tgt := 44) rfl ?_
        have hw := hw.2.1 c25
        exact hj10  _ hw
      | 1, _, c25 =>
        have c25 : x1 = (1) := c25
        refine z_tableIn hX dX3_game_6 (by rw [c25]; decide) (by rw [c25]; decide) (off := 38) (by rw [c25]; rfl) (tgt := 44) rfl ?_
        have hw := hw.2.2.1 c25
        exact hj10  _ hw
      | 2, _, c25 =>
        have c25 : x1 = (2) := c25
        refine z_tableIn hX dX3_game_6 (by rw [c25]; decide) (by rw [c25]; decide) (off := 48) (by rw [c25]; rfl) (tgt := 54) rfl ?_
        have hw := hw.2.2.2.1 c25
        refine z_aload_n hX dX3_game_54 rfl (i := 0) rfl ?_
        refine z_aload_n hX dX3_game_55 rfl (i := 0) rfl ?_
        obtain ⟨a37, f38, r39, m40, hw⟩ := hw
        refine z_invV hX hd r39 (ci := 4) rfl rfl m40 dX3_game_56 (hC 216 _ zm216 _ _ _ _ hw) q2829 q2831 qs80 zh7 q2832 q136 zn216 rfl (Nat.le_of_ble_eq_true rfl) (st := [va_rf (some a0)]) rfl (zcs8 (Nat.le_of_ble_eq_true rfl)) rfl (zkI (fun v34 s35 hw => ?_)) (zout hX hR hTb)
        obtain ⟨a44, f45, r46, m47, hw⟩ := hw
        refine z_invV hX hd r46 (ci := 4) rfl rfl m47 dX3_game_59 (hC 160 _ zm160 _ _ _ _ hw) q2609 q2611 qs47 zh7 q2612 q136 zn160 rfl (Nat.le_of_ble_eq_true rfl) (st := []) rfl (zcs8 (Nat.le_of_ble_eq_true rfl)) rfl (zkI (fun v41 s42 hw => ?_)) (zout hX hR hTb)
        exact z_ireturn hX hR dX3_game_62 rfl hw
      | 3, _, c25 =>
        have c25 : x1 = (3) := c25
        refine z_tableIn hX dX3_game_6 (by rw [c25]; decide) (by rw [c25]; decide) (off := 57) (by rw [c25]; rfl) (tgt := 63) rfl ?_
        have hw := hw.2.2.2.2.1 c25
        refine z_aload_n hX dX3_game_63 rfl (i := 0) rfl ?_
        obtain ⟨a51, f52, r53, m54, hw⟩ := hw
        refine z_invV hX hd r53 (ci := 4) rfl rfl m54 dX3_game_64 (hC 217 _ zm217 _ _ _ _ hw) q2833 q2835 qs81 zh7 q2836 q136 zn217 rfl (Nat.le_of_ble_eq_true rfl) (st := []) rfl (zcs8 (Nat.le_of_ble_eq_true rfl)) rfl (zkI (fun v48 s49 hw => ?_)) (zout hX hR hTb)
        exact z_ireturn hX hR dX3_game_67 rfl hw
      | 4, _, c25 =>
        have c25 : x1 = (4) := c25
        refine z_tableIn hX dX3_game_6 (by rw [c25]; decide) (by rw [c25]; decide) (off := 62) (by rw [c25]; rfl) (tgt := 68) rfl ?_
        have hw := hw.2.2.2.2.2.1 c25
        refine z_aload_n hX dX3_game_68 rfl (i := 0) rfl ?_
        obtain ⟨a58, f59, r60, m61, hw⟩ := hw
        refine z_invV hX hd r60 (ci := 4) rfl rfl m61 dX3_game_69 (hC 218 _ zm218 _ _ _ _ hw) q2837 q2839 qs82 zh7 q2840 q136 zn218 rfl (Nat.le_of_ble_eq_true rfl) (st := []) rfl (zcs8 (Nat.le_of_ble_eq_true rfl)) rfl (zkI (fun v55 s56 hw => ?_)) (zout hX hR hTb)
        exact z_ireturn hX hR dX3_game_72 rfl hw
      | 5, _, c25 =>
        have c25 : x1 = (5) := c25
        refine z_tableIn hX dX3_game_6 (by rw [c25]; decide) (by rw [c25]; decide) (off := 67) (by rw [c25]; rfl) (tgt := 73) rfl ?_
        have hw := hw.2.2.2.2.2.2 c25
        refine z_aload_n hX dX3_game_73 rfl (i := 0) rfl ?_
        obtain ⟨a63, f64, v62, r65, m66, e67, hw⟩ := hw
        refine z_get hX zc4 (k := 0) dX3_game_74 (Nat.le_of_ble_eq_true rfl) (zlk hX q2469) r65 m66 e67 ?_
        refine z_bipush hX (v := (10 : Int32)) dX3_game_77 (by decide) ?_
        obtain ⟨a68, n69, f70, r71, m72, i73, hw⟩ := hw
        refine z_iald hX dX3_game_79 r71 m72 i73 ?_
        revert hw
        generalize f70 (Int32.toNatClampNeg (10 : Int32)) = v74
        intro hw
        exact z_ireturn hX hR dX3_game_80 rfl hw
      | j26 + 6, h, _ => exact absurd h (by omega)
abbrev cX3_taken : ByteArray := prog_28_method_56_code
def yX3_taken : MethodName := ⟨RX3, "taken", "()I"⟩
def dkwX3_taken_0 : List UInt8 := [42, 180, 0, 9, 16, 6, 46, 42, 180, 0, 9, 16, 7, 46, 128, 172]
abbrev dktX3_taken_0 : List UInt8 := dkwX3_taken_0 ++ []
theorem dksX3_taken_0 : cX3_taken.data.toList.drop 0 = dktX3_taken_0 := by decide +kernel
theorem dX3_taken_0 : decode cX3_taken 0 = .ok (.aload_n 0, 1) := dk_42 (dk_at dksX3_taken_0 0 rfl rfl)
theorem dX3_taken_1 : decode cX3_taken 1 = .ok (.getfield 9, 3) := dk_180 0 9 (dk_at dksX3_taken_0 1 rfl rfl)
theorem dX3_taken_4 : decode cX3_taken 4 = .ok (.bipush 6, 2) := dk_16 6 (dk_at dksX3_taken_0 4 rfl rfl)
theorem dX3_taken_6 : decode cX3_taken 6 = .ok (.iaload, 1) := dk_46 (dk_at dksX3_taken_0 6 rfl rfl)
theorem dX3_taken_7 : decode cX3_taken 7 = .ok (.aload_n 0, 1) := dk_42 (dk_at dksX3_taken_0 7 rfl rfl)
theorem dX3_taken_8 : decode cX3_taken 8 = .ok (.getfield 9, 3) := dk_180 0 9 (dk_at dksX3_taken_0 8 rfl rfl)
theorem dX3_taken_11 : decode cX3_taken 11 = .ok (.bipush 7, 2) := dk_16 7 (dk_at dksX3_taken_0 11 rfl rfl)
theorem dX3_taken_13 : decode cX3_taken 13 = .ok (.iaload, 1) := dk_46 (dk_at dksX3_taken_0 13 rfl rfl)
theorem dX3_taken_14 : decode cX3_taken 14 = .ok (.ior, 1) := dk_128 (dk_at dksX3_taken_0 14 rfl rfl)
theorem dX3_taken_15 : decode cX3_taken 15 = .ok (.ireturn, 1) := dk_172 (dk_at dksX3_taken_0 15 rfl rfl)
/-- PackingDuelModel.taken()I -/
def zb216 (G : zPg) (C : zO) (args : List Value) (Q : zQ) (Y : zY) (σ : zS) : Prop := ∃ (a0 : Nat), args = [.ref a0] ∧ (zgR σ (some a0) 4 0 (fun v1 => zaI σ 0 v1 (6 : Int32) (fun v13 => zgR σ (some a0) 4 0 (fun v15 => zaI σ 0 v15 (7 : Int32) (fun v27 => Q (some (.int (v13 ||| v27))) σ)))))
set_option maxHeartbeats 4000000 in
theorem wk216 {l : Launch} {g : zG} {d : Nat} {C : zO} (hG : zGk g) (hC : zSound l g d C) {args : List Value} {Q : zQ} {Y : zY} {σ : zS} (hw : zb216 (zpg g) C args Q Y σ) : zMet l g (d + 1) (⟨"PackingDuelModel", "taken", "()I"⟩, Cond.code ⟨"PackingDuelModel", "taken", "()I"⟩ prog_28_method_56_code 1 (Option.some FieldType.int)) args σ Q Y := by
  obtain ⟨a0, rfl, hw⟩ := hw
  refine zof hG (by decide +kernel) [false] ⟨rfl, trivial⟩ (Nat.le_of_ble_eq_true rfl) (ls := [some (va_rf (some a0))]) rfl ?_
  intro X hX hR hTb hd1 hd2 hl hg hnm
  subst hl
  subst hg
  have hd : zDep X d := ⟨hd1, hd2⟩
  refine z_aload_n hX dX3_taken_0 rfl (i := 0) rfl ?_
  obtain ⟨a2, f3, v1, r4, m5, e6, hw⟩ := hw
  refine z_get hX zc4 (k := 0) dX3_taken_1 (Nat.le_of_ble_eq_true rfl) (zlk hX q2469) r4 m5 e6 ?_
  refine z_bipush hX (v := (6 : Int32)) dX3_taken_4 (by decide) ?_
  obtain ⟨a7, n8, f9, r10, m11, i12, hw⟩ := hw
  refine z_iald hX dX3_taken_6 r10 m11 i12 ?_
  revert hw
  generalize f9 (Int32.toNatClampNeg (6 : Int32)) = v13
  intro hw
  refine z_aload_n hX dX3_taken_7 rfl (i := 0) rfl ?_
  obtain ⟨a16, f17, v15, r18, m19, e20, hw⟩ := hw
  refine z_get hX zc4 (k := 0) dX3_taken_8 (Nat.le_of_ble_eq_true rfl) (zlk hX q2469) r18 m19 e20 ?_
  refine z_bipush hX (v := (7 : Int32)) dX3_taken_11 (by decide) ?_
  obtain ⟨a21, n22, f23, r24, m25, i26, hw⟩ := hw
  refine z_iald hX dX3_taken_13 r24 m25 i26 ?_
  revert hw
  generalize f23 (Int32.toNatClampNeg (7 : Int32)) = v27
  intro hw
  refine z_ior hX dX3_taken_14 ?_
  exact z_ireturn hX hR dX3_taken_15 rfl hw
abbrev cX3_score : ByteArray := prog_28_method_58_code
def yX3_score : MethodName := ⟨RX3, "score", "()I"⟩
def dkwX3_score_1 : List UInt8 := [100, 172]
abbrev dktX3_score_1 : List UInt8 := dkwX3_score_1 ++ []
def dkwX3_score_0 : List UInt8 := [42, 42, 180, 0, 9, 16, 6, 46, 4, 182, 0, 117, 42, 42, 180, 0, 9, 16, 7, 46, 6, 182, 0, 117]
abbrev dktX3_score_0 : List UInt8 := dkwX3_score_0 ++ dktX3_score_1
theorem dksX3_score_0 : cX3_score.data.toList.drop 0 = dktX3_score_0 := by decide +kernel
theorem dksX3_score_1 : cX3_score.data.toList.drop 24 = dktX3_score_1 := dk_seg dksX3_score_0 24 rfl rfl
theorem dX3_score_0 : decode cX3_score 0 = .ok (.aload_n 0, 1) := dk_42 (dk_at dksX3_score_0 0 rfl rfl)
theorem dX3_score_1 : decode cX3_score 1 = .ok (.aload_n 0, 1) := dk_42 (dk_at dksX3_score_0 1 rfl rfl)
theorem dX3_score_2 : decode cX3_score 2 = .ok (.getfield 9, 3) := dk_180 0 9 (dk_at dksX3_score_0 2 rfl rfl)
theorem dX3_score_5 : decode cX3_score 5 = .ok (.bipush 6, 2) := dk_16 6 (dk_at dksX3_score_0 5 rfl rfl)
theorem dX3_score_7 : decode cX3_score 7 = .ok (.iaload, 1) := dk_46 (dk_at dksX3_score_0 7 rfl rfl)
theorem dX3_score_8 : decode cX3_score 8 = .ok (.iconst 1, 1) := dk_4 (dk_at dksX3_score_0 8 rfl rfl)
theorem dX3_score_9 : decode cX3_score 9 = .ok (.invokevirtual 117, 3) := dk_182 0 117 (dk_at dksX3_score_0 9 rfl rfl)
theorem dX3_score_12 : decode cX3_score 12 = .ok (.aload_n 0, 1) := dk_42 (dk_at dksX3_score_0 12 rfl rfl)
theorem dX3_score_13 : decode cX3_score 13 = .ok (.aload_n 0, 1) := dk_42 (dk_at dksX3_score_0 13 rfl rfl)
theorem dX3_score_14 : decode cX3_score 14 = .ok (.getfield 9, 3) := dk_180 0 9 (dk_at dksX3_score_0 14 rfl rfl)
theorem dX3_score_17 : decode cX3_score 17 = .ok (.bipush 7, 2) := dk_16 7 (dk_at dksX3_score_0 17 rfl rfl)
theorem dX3_score_19 : decode cX3_score 19 = .ok (.iaload, 1) := dk_46 (dk_at dksX3_score_0 19 rfl rfl)
theorem dX3_score_20 : decode cX3_score 20 = .ok (.iconst 3, 1) := dk_6 (dk_at dksX3_score_0 20 rfl rfl)
theorem dX3_score_21 : decode cX3_score 21 = .ok (.invokevirtual 117, 3) := dk_182 0 117 (dk_at dksX3_score_0 21 rfl rfl)
theorem dX3_score_24 : decode cX3_score 24 = .ok (.isub, 1) := dk_100 (dk_at dksX3_score_1 0 rfl rfl)
theorem dX3_score_25 : decode cX3_score 25 = .ok (.ireturn, 1) := dk_172 (dk_at dksX3_score_1 1 rfl rfl)
/-- PackingDuelModel.score()I -/
def zb217 (G : zPg) (C : zO) (args : List Value) (Q : zQ) (Y : zY) (σ : zS) : Prop := ∃ (a0 : Nat), args = [.ref a0] ∧ (zgR σ (some a0) 4 0 (fun v1 => zaI σ 0 v1 (6 : Int32) (fun v13 => zrc σ (some a0) 4 (fun a18 => zcl C 161 [.ref a18, .int v13, .int (1 : Int32)] Y σ (zqI (fun v15 s16 => zgR s16 (some a0) 4 0 (fun v22 => zaI s16 0 v22 (7 : Int32) (fun v34 => zrc s16 (some a0) 4 (fun a39 => zcl C 161 [.ref a39, .int v34, .int (3 : Int32)] Y s16 (zqI (fun v36 s37 => Q (some (.int (v15 - v36))) s37)))))))))))
set_option maxHeartbeats 4000000 in
theorem wk217 {l : Launch} {g : zG} {d : Nat} {C : zO} (hG : zGk g) (hC : zSound l g d C) {args : List Value} {Q : zQ} {Y : zY} {σ : zS} (hw : zb217 (zpg g) C args Q Y σ) : zMet l g (d + 1) (⟨"PackingDuelModel", "score", "()I"⟩, Cond.code ⟨"PackingDuelModel", "score", "()I"⟩ prog_28_method_58_code 1 (Option.some FieldType.int)) args σ Q Y := by
  obtain ⟨a0, rfl, hw⟩ := hw
  refine zof hG (by decide +kernel) [false] ⟨rfl, trivial⟩ (Nat.le_of_ble_eq_true rfl) (ls := [some (va_rf (some a0))]) rfl ?_
  intro X hX hR hTb hd1 hd2 hl hg hnm
  subst hl
  subst hg
  have hd : zDep X d := ⟨hd1, hd2⟩
  refine z_aload_n hX dX3_score_0 rfl (i := 0) rfl ?_
  refine z_aload_n hX dX3_score_1 rfl (i := 0) rfl ?_
  obtain ⟨a2, f3, v1, r4, m5, e6, hw⟩ := hw
  refine z_get hX zc4 (k := 0) dX3_score_2 (Nat.le_of_ble_eq_true rfl) (zlk hX q2469) r4 m5 e6 ?_
  refine z_bipush hX (v := (6 : Int32)) dX3_score_5 (by decide) ?_
  obtain ⟨a7, n8, f9, r10, m11, i12, hw⟩ := hw
  refine z_iald hX dX3_score_7 r10 m11 i12 ?_
  revert hw
  generalize f9 (Int32.toNatClampNeg (6 : Int32)) = v13
  intro hw
  refine z_iconst hX (v := (1 : Int32)) dX3_score_8 (by decide) ?_
  obtain ⟨a18, f19, r20, m21, hw⟩ := hw
  refine z_invV hX hd r20 (ci := 4) rfl rfl m21 dX3_score_9 (hC 161 _ zm161 _ _ _ _ hw) q2613 q2615 qs48 zh7 q2616 q136 zn161 rfl (Nat.le_of_ble_eq_true rfl) (st := []) rfl (zcs8 (Nat.le_of_ble_eq_true rfl)) rfl (zkI (fun v15 s16 hw => ?_)) (zout hX hR hTb)
  refine z_aload_n hX dX3_score_12 rfl (i := 0) rfl ?_
  refine z_aload_n hX dX3_score_13 rfl (i := 0) rfl ?_
  obtain ⟨a23, f24, v22, r25, m26, e27, hw⟩ := hw
  refine z_get hX zc4 (k := 0) dX3_score_14 (Nat.le_of_ble_eq_true rfl) (zlk hX q2469) r25 m26 e27 ?_
  refine z_bipush hX (v := (7 : Int32)) dX3_score_17 (by decide) ?_
  obtain ⟨a28, n29, f30, r31, m32, i33, hw⟩ := hw
  refine z_iald hX dX3_score_19 r31 m32 i33 ?_
  revert hw
  generalize f30 (Int32.toNatClampNeg (7 : Int32)) = v34
  intro hw
  refine z_iconst hX (v := (3 : Int32)) dX3_score_20 (by decide) ?_
  obtain ⟨a39, f40, r41, m42, hw⟩ := hw
  refine z_invV hX hd r41 (ci := 4) rfl rfl m42 dX3_score_21 (hC 161 _ zm161 _ _ _ _ hw) q2613 q2615 qs48 zh7 q2616 q136 zn161 rfl (Nat.le_of_ble_eq_true rfl) (st := [.int v15]) rfl (zcs8 (Nat.le_of_ble_eq_true rfl)) rfl (zkI (fun v36 s37 hw => ?_)) (zout hX hR hTb)
  refine z_isub hX dX3_score_24 ?_
  exact z_ireturn hX hR dX3_score_25 rfl hw
abbrev cX3_turnNow : ByteArray := prog_28_method_62_code
def yX3_turnNow : MethodName := ⟨RX3, "turnNow", "()I"⟩
def dkwX3_turnNow_0 : List UInt8 := [42, 182, 1, 26, 153, 0, 7, 2, 167, 0, 10, 42, 180, 0, 9, 16, 8, 46, 172]
abbrev dktX3_turnNow_0 : List UInt8 := dkwX3_turnNow_0 ++ []
theorem dksX3_turnNow_0 : cX3_turnNow.data.toList.drop 0 = dktX3_turnNow_0 := by decide +kernel
theorem dX3_turnNow_0 : decode cX3_turnNow 0 = .ok (.aload_n 0, 1) := dk_42 (dk_at dksX3_turnNow_0 0 rfl rfl)
theorem dX3_turnNow_1 : decode cX3_turnNow 1 = .ok (.invokevirtual 282, 3) := dk_182 1 26 (dk_at dksX3_turnNow_0 1 rfl rfl)
theorem dX3_turnNow_4 : decode cX3_turnNow 4 = .ok (.ifCond .eq 7, 3) := dk_153 0 7 (dk_at dksX3_turnNow_0 4 rfl rfl)
theorem dX3_turnNow_7 : decode cX3_turnNow 7 = .ok (.iconst (-1), 1) := dk_2 (dk_at dksX3_turnNow_0 7 rfl rfl)
theorem dX3_turnNow_8 : decode cX3_turnNow 8 = .ok (.goto 10, 3) := dk_167 0 10 (dk_at dksX3_turnNow_0 8 rfl rfl)
theorem dX3_turnNow_11 : decode cX3_turnNow 11 = .ok (.aload_n 0, 1) := dk_42 (dk_at dksX3_turnNow_0 11 rfl rfl)
theorem dX3_turnNow_12 : decode cX3_turnNow 12 = .ok (.getfield 9, 3) := dk_180 0 9 (dk_at dksX3_turnNow_0 12 rfl rfl)
theorem dX3_turnNow_15 : decode cX3_turnNow 15 = .ok (.bipush 8, 2) := dk_16 8 (dk_at dksX3_turnNow_0 15 rfl rfl)
theorem dX3_turnNow_17 : decode cX3_turnNow 17 = .ok (.iaload, 1) := dk_46 (dk_at dksX3_turnNow_0 17 rfl rfl)
theorem dX3_turnNow_18 : decode cX3_turnNow 18 = .ok (.ireturn, 1) := dk_172 (dk_at dksX3_turnNow_0 18 rfl rfl)
/-- PackingDuelModel.turnNow()I -/
def zb218 (G : zPg) (C : zO) (args : List Value) (Q : zQ) (Y : zY) (σ : zS) : Prop := ∃ (a0 : Nat), args = [.ref a0] ∧ (zrc σ (some a0) 4 (fun a4 => zcl C 219 [.ref a4] Y σ (zqI (fun v1 s2 => zJ (fun (p8 : Int32) (s9 : zS) => Q (some (.int p8)) s9) (fun (j10 : Int32 → zS → Prop) => ((v1 = 0) → zgR s2 (some a0) 4 0 (fun v12 => zaI s2 0 v12 (8 : Int32) (fun v24 => j10 v24 s2))) ∧ ((¬ v1 = 0) → j10 (-1 : Int32) s2))))))
set_option maxHeartbeats 4000000 in
theorem wk218 {l : Launch} {g : zG} {d : Nat} {C : zO} (hG : zGk g) (hC : zSound l g d C) {args : List Value} {Q : zQ} {Y : zY} {σ : zS} (hw : zb218 (zpg g) C args Q Y σ) : zMet l g (d + 1) (⟨"PackingDuelModel", "turnNow", "()I"⟩, Cond.code ⟨"PackingDuelModel", "turnNow", "()I"⟩ prog_28_method_62_code 1 (Option.some FieldType.int)) args σ Q Y := by
  obtain ⟨a0, rfl, hw⟩ := hw
  refine zof hG (by decide +kernel) [false] ⟨rfl, trivial⟩ (Nat.le_of_ble_eq_true rfl) (ls := [some (va_rf (some a0))]) rfl ?_
  intro X hX hR hTb hd1 hd2 hl hg hnm
  subst hl
  subst hg
  have hd : zDep X d := ⟨hd1, hd2⟩
  refine z_aload_n hX dX3_turnNow_0 rfl (i := 0) rfl ?_
  obtain ⟨a4, f5, r6, m7, hw⟩ := hw
  refine z_invV hX hd r6 (ci := 4) rfl rfl m7 dX3_turnNow_1 (hC 219 _ zm219 _ _ _ _ hw) q2841 q2843 qs83 zh7 q2844 q136 zn219 rfl (Nat.le_of_ble_eq_true rfl) (st := []) rfl (zcs8 (Nat.le_of_ble_eq_true rfl)) rfl (zkI (fun v1 s2 hw => ?_)) (zout hX hR hTb)
  refine zJ_w (P := fun (j : Int32 → zS → Prop) => ∀ (p8 : Int32) (s9 : zS), j p8 s9 → zW X s9 18 [none] [.int p8]) hw (fun p8 s9 hw => ?_) (fun j10 hj10 hw => ?_)
  · exact z_ireturn hX hR dX3_turnNow_18 rfl hw
  · refine z_if_eq hX dX3_turnNow_4 (tgt := 11) rfl (fun c11 => ?_) (fun c11 => ?_)
    · have hw := hw.1 c11
      refine z_aload_n hX dX3_turnNow_11 rfl (i := 0) rfl ?_
      obtain ⟨a13, f14, v12, r15, m16, e17, hw⟩ := hw
      refine z_get hX zc4 (k := 0) dX3_turnNow_12 (Nat.le_of_ble_eq_true rfl) (zlk hX q2469) r15 m16 e17 ?_
      refine z_bipush hX (v := (8 : Int32)) dX3_turnNow_15 (by decide) ?_
      obtain ⟨a18, n19, f20, r21, m22, i23, hw⟩ := hw
      refine z_iald hX dX3_turnNow_17 r21 m22 i23 ?_
      revert hw
      generalize f20 (Int32.toNatClampNeg (8 : Int32)) = v24
      intro hw
      refine z_sub (ls' := [none]) (zsN (zs0)) ?_
      exact hj10 _ _ hw
    · have hw := hw.2 c11
      refine z_iconst hX (v := (-1 : Int32)) dX3_turnNow_7 (by decide) ?_
      refine z_goto hX dX3_turnNow_8 (tgt := 18) rfl ?_
      refine z_sub (ls' := [none]) (zsN (zs0)) ?_
      exact hj10 _ _ hw
abbrev cX3_isOver : ByteArray := prog_28_method_57_code
def yX3_isOver : MethodName := ⟨RX3, "isOver", "()Z"⟩
def dkwX3_isOver_1 : List UInt8 := [154, 0, 7, 4, 167, 0, 4, 3, 172]
abbrev dktX3_isOver_1 : List UInt8 := dkwX3_isOver_1 ++ []
def dkwX3_isOver_0 : List UInt8 := [42, 182, 0, 133, 42, 180, 0, 9, 16, 9, 46, 5, 159, 0, 14, 42, 42, 182, 1, 23, 182, 1, 7]
abbrev dktX3_isOver_0 : List UInt8 := dkwX3_isOver_0 ++ dktX3_isOver_1
theorem dksX3_isOver_0 : cX3_isOver.data.toList.drop 0 = dktX3_isOver_0 := by decide +kernel
theorem dksX3_isOver_1 : cX3_isOver.data.toList.drop 23 = dktX3_isOver_1 := dk_seg dksX3_isOver_0 23 rfl rfl
theorem dX3_isOver_0 : decode cX3_isOver 0 = .ok (.aload_n 0, 1) := dk_42 (dk_at dksX3_isOver_0 0 rfl rfl)
theorem dX3_isOver_1 : decode cX3_isOver 1 = .ok (.invokevirtual 133, 3) := dk_182 0 133 (dk_at dksX3_isOver_0 1 rfl rfl)
theorem dX3_isOver_4 : decode cX3_isOver 4 = .ok (.aload_n 0, 1) := dk_42 (dk_at dksX3_isOver_0 4 rfl rfl)
theorem dX3_isOver_5 : decode cX3_isOver 5 = .ok (.getfield 9, 3) := dk_180 0 9 (dk_at dksX3_isOver_0 5 rfl rfl)
theorem dX3_isOver_8 : decode cX3_isOver 8 = .ok (.bipush 9, 2) := dk_16 9 (dk_at dksX3_isOver_0 8 rfl rfl)
theorem dX3_isOver_10 : decode cX3_isOver 10 = .ok (.iaload, 1) := dk_46 (dk_at dksX3_isOver_0 10 rfl rfl)
theorem dX3_isOver_11 : decode cX3_isOver 11 = .ok (.iconst 2, 1) := dk_5 (dk_at dksX3_isOver_0 11 rfl rfl)
theorem dX3_isOver_12 : decode cX3_isOver 12 = .ok (.if_icmp .eq 14, 3) := dk_159 0 14 (dk_at dksX3_isOver_0 12 rfl rfl)
theorem dX3_isOver_15 : decode cX3_isOver 15 = .ok (.aload_n 0, 1) := dk_42 (dk_at dksX3_isOver_0 15 rfl rfl)
theorem dX3_isOver_16 : decode cX3_isOver 16 = .ok (.aload_n 0, 1) := dk_42 (dk_at dksX3_isOver_0 16 rfl rfl)
theorem dX3_isOver_17 : decode cX3_isOver 17 = .ok (.invokevirtual 279, 3) := dk_182 1 23 (dk_at dksX3_isOver_0 17 rfl rfl)
theorem dX3_isOver_20 : decode cX3_isOver 20 = .ok (.invokevirtual 263, 3) := dk_182 1 7 (dk_at dksX3_isOver_0 20 rfl rfl)
theorem dX3_isOver_23 : decode cX3_isOver 23 = .ok (.ifCond .ne 7, 3) := dk_154 0 7 (dk_at dksX3_isOver_1 0 rfl rfl)
theorem dX3_isOver_26 : decode cX3_isOver 26 = .ok (.iconst 1, 1) := dk_4 (dk_at dksX3_isOver_1 3 rfl rfl)
theorem dX3_isOver_27 : decode cX3_isOver 27 = .ok (.goto 4, 3) := dk_167 0 4 (dk_at dksX3_isOver_1 4 rfl rfl)
theorem dX3_isOver_30 : decode cX3_isOver 30 = .ok (.iconst 0, 1) := dk_3 (dk_at dksX3_isOver_1 7 rfl rfl)
theorem dX3_isOver_31 : decode cX3_isOver 31 = .ok (.ireturn, 1) := dk_172 (dk_at dksX3_isOver_1 8 rfl rfl)
/-- PackingDuelModel.isOver()Z -/
def zb219 (G : zPg) (C : zO) (args : List Value) (Q : zQ) (Y : zY) (σ : zS) : Prop := ∃ (a0 : Nat), args = [.ref a0] ∧ (zrc σ (some a0) 4 (fun a4 => zcl C 172 [.ref a4] Y σ (zqV (fun s2 => zgR s2 (some a0) 4 0 (fun v8 => zaI s2 0 v8 (9 : Int32) (fun v20 => zJ (fun (p22 : Int32) (s23 : zS) => zbool p22 ∧ Q (some (.int p22)) s23) (fun (j24 : Int32 → zS → Prop) => zJ (fun  (s25 : zS) => j24 (1 : Int32) s25) (fun (j26 : zS → Prop) => ((v20 = (2 : Int32)) → j26 s2) ∧ ((¬ v20 = (2 : Int32)) → zrc s2 (some a0) 4 (fun a31 => zcl C 216 [.ref a31] Y s2 (zqI (fun v28 s29 => zrc s29 (some a0) 4 (fun a38 => zcl C 220 [.ref a38, .int v28] Y s29 (zqI (fun v35 s36 => ((¬ v35 = 0) → j24 (0 : Int32) s36) ∧ ((v35 = 0) → j26 s36))))))))))))))))
set_option maxHeartbeats 4000000 in
theorem wk219 {l : Launch} {g : zG} {d : Nat} {C : zO} (hG : zGk g) (hC : zSound l g d C) {args : List Value} {Q : zQ} {Y : zY} {σ : zS} (hw : zb219 (zpg g) C args Q Y σ) : zMet l g (d + 1) (⟨"PackingDuelModel", "isOver", "()Z"⟩, Cond.code ⟨"PackingDuelModel", "isOver", "()Z"⟩ prog_28_method_57_code 1 (Option.some FieldType.boolean)) args σ Q Y := by
  obtain ⟨a0, rfl, hw⟩ := hw
  refine zof hG (by decide +kernel) [false] ⟨rfl, trivial⟩ (Nat.le_of_ble_eq_true rfl) (ls := [some (va_rf (some a0))]) rfl ?_
  intro X hX hR hTb hd1 hd2 hl hg hnm
  subst hl
  subst hg
  have hd : zDep X d := ⟨hd1, hd2⟩
  refine z_aload_n hX dX3_isOver_0 rfl (i := 0) rfl ?_
  obtain ⟨a4, f5, r6, m7, hw⟩ := hw
  refine z_invV hX hd r6 (ci := 4) rfl rfl m7 dX3_isOver_1 (hC 172 _ zm172 _ _ _ _ hw) q2655 q2657 qs54 zh7 q2658 q136 zn172 rfl (Nat.le_of_ble_eq_true rfl) (st := []) rfl (zcs8 (Nat.le_of_ble_eq_true rfl)) rfl (zkV (fun s2 hw => ?_)) (zout hX hR hTb)
  refine z_aload_n hX dX3_isOver_4 rfl (i := 0) rfl ?_
  obtain ⟨a9, f10, v8, r11, m12, e13, hw⟩ := hw
  refine z_get hX zc4 (k := 0) dX3_isOver_5 (Nat.le_of_ble_eq_true rfl) (zlk hX q2469) r11 m12 e13 ?_
  refine z_bipush hX (v := (9 : Int32)) dX3_isOver_8 (by decide) ?_
  obtain ⟨a14, n15, f16, r17, m18, i19, hw⟩ := hw
  refine z_iald hX dX3_isOver_10 r17 m18 i19 ?_
  revert hw
  generalize f16 (Int32.toNatClampNeg (9 : Int32)) = v20
  intro hw
  refine z_iconst hX (v := (2 : Int32)) dX3_isOver_11 (by decide) ?_
  refine zJ_w (P := fun (j : Int32 → zS → Prop) => ∀ (p22 : Int32) (s23 : zS), j p22 s23 → zW X s23 31 [none] [.int p22]) hw (fun p22 s23 hw => ?_) (fun j24 hj24 hw => ?_)
  · exact z_ireturn hX hR dX3_isOver_31 (zn_z hw.1) hw.2
  · refine zJ_w (P := fun (j : zS → Prop) => ∀  (s25 : zS), j  s25 → zW X s25 26 [none] []) hw (fun  s25 hw => ?_) (fun j26 hj26 hw => ?_)
    · refine z_iconst hX (v := (1 : Int32)) dX3_isOver_26 (by decide) ?_
      refine z_goto hX dX3_isOver_27 (tgt := 31) rfl ?_
      exact hj24 _ _ hw
    · refine z_icmp_eq hX dX3_isOver_12 (tgt := 26) rfl (fun c27 => ?_) (fun c27 => ?_)
      · have hw := hw.1 c27
        refine z_sub (ls' := [none]) (zsN (zs0)) ?_
        exact hj26  _ hw
      · have hw := hw.2 c27
        refine z_aload_n hX dX3_isOver_15 rfl (i := 0) rfl ?_
        refine z_aload_n hX dX3_isOver_16 rfl (i := 0) rfl ?_
        obtain ⟨a31, f32, r33, m34, hw⟩ := hw
        refine z_invV hX hd r33 (ci := 4) rfl rfl m34 dX3_isOver_17 (hC 216 _ zm216 _ _ _ _ hw) q2829 q2831 qs80 zh7 q2832 q136 zn216 rfl (Nat.le_of_ble_eq_true rfl) (st := [va_rf (some a0)]) rfl (zcs8 (Nat.le_of_ble_eq_true rfl)) rfl (zkI (fun v28 s29 hw => ?_)) (zout hX hR hTb)
        obtain ⟨a38, f39, r40, m41, hw⟩ := hw
        refine z_invV hX hd r40 (ci := 4) rfl rfl m41 dX3_isOver_20 (hC 220 _ zm220 _ _ _ _ hw) q2845 q2847 qs84 zh7 q2848 q136 zn220 rfl (Nat.le_of_ble_eq_true rfl) (st := []) rfl (zcs8 (Nat.le_of_ble_eq_true rfl)) rfl (zkI (fun v35 s36 hw => ?_)) (zout hX hR hTb)
        refine z_if_ne hX dX3_isOver_23 (tgt := 30) rfl (fun c42 => ?_) (fun c42 => ?_)
        · have hw := hw.1 c42
          refine z_iconst hX (v := (0 : Int32)) dX3_isOver_30 (by decide) ?_
          refine z_sub (ls' := [none]) (zsN (zs0)) ?_
          exact hj24 _ _ hw
        · have hw := hw.2 c42
          refine z_sub (ls' := [none]) (zsN (zs0)) ?_
          exact hj26  _ hw
abbrev cX3_canStill : ByteArray := prog_28_method_50_code
def yX3_canStill : MethodName := ⟨RX3, "canStill", "(I)Z"⟩
def dkwX3_canStill_1 : List UInt8 := [42, 27, 182, 1, 1, 163, 0, 5, 4, 172, 132, 2, 1, 167, 255, 221, 3, 172]
abbrev dktX3_canStill_1 : List UInt8 := dkwX3_canStill_1 ++ []
def dkwX3_canStill_0 : List UInt8 := [3, 61, 28, 42, 182, 0, 106, 162, 0, 33, 27, 28, 122, 4, 126, 154, 0, 19, 42, 28, 3, 182, 0, 168]
abbrev dktX3_canStill_0 : List UInt8 := dkwX3_canStill_0 ++ dktX3_canStill_1
theorem dksX3_canStill_0 : cX3_canStill.data.toList.drop 0 = dktX3_canStill_0 := by decide +kernel
theorem dksX3_canStill_1 : cX3_canStill.data.toList.drop 24 = dktX3_canStill_1 := dk_seg dksX3_canStill_0 24 rfl rfl
theorem dX3_canStill_0 : decode cX3_canStill 0 = .ok (.iconst 0, 1) := dk_3 (dk_at dksX3_canStill_0 0 rfl rfl)
theorem dX3_canStill_1 : decode cX3_canStill 1 = .ok (.istore_n 2, 1) := dk_61 (dk_at dksX3_canStill_0 1 rfl rfl)
theorem dX3_canStill_2 : decode cX3_canStill 2 = .ok (.iload_n 2, 1) := dk_28 (dk_at dksX3_canStill_0 2 rfl rfl)
theorem dX3_canStill_3 : decode cX3_canStill 3 = .ok (.aload_n 0, 1) := dk_42 (dk_at dksX3_canStill_0 3 rfl rfl)
theorem dX3_canStill_4 : decode cX3_canStill 4 = .ok (.invokevirtual 106, 3) := dk_182 0 106 (dk_at dksX3_canStill_0 4 rfl rfl)
theorem dX3_canStill_7 : decode cX3_canStill 7 = .ok (.if_icmp .ge 33, 3) := dk_162 0 33 (dk_at dksX3_canStill_0 7 rfl rfl)
theorem dX3_canStill_10 : decode cX3_canStill 10 = .ok (.iload_n 1, 1) := dk_27 (dk_at dksX3_canStill_0 10 rfl rfl)
theorem dX3_canStill_11 : decode cX3_canStill 11 = .ok (.iload_n 2, 1) := dk_28 (dk_at dksX3_canStill_0 11 rfl rfl)
theorem dX3_canStill_12 : decode cX3_canStill 12 = .ok (.ishr, 1) := dk_122 (dk_at dksX3_canStill_0 12 rfl rfl)
theorem dX3_canStill_13 : decode cX3_canStill 13 = .ok (.iconst 1, 1) := dk_4 (dk_at dksX3_canStill_0 13 rfl rfl)
theorem dX3_canStill_14 : decode cX3_canStill 14 = .ok (.iand, 1) := dk_126 (dk_at dksX3_canStill_0 14 rfl rfl)
theorem dX3_canStill_15 : decode cX3_canStill 15 = .ok (.ifCond .ne 19, 3) := dk_154 0 19 (dk_at dksX3_canStill_0 15 rfl rfl)
theorem dX3_canStill_18 : decode cX3_canStill 18 = .ok (.aload_n 0, 1) := dk_42 (dk_at dksX3_canStill_0 18 rfl rfl)
theorem dX3_canStill_19 : decode cX3_canStill 19 = .ok (.iload_n 2, 1) := dk_28 (dk_at dksX3_canStill_0 19 rfl rfl)
theorem dX3_canStill_20 : decode cX3_canStill 20 = .ok (.iconst 0, 1) := dk_3 (dk_at dksX3_canStill_0 20 rfl rfl)
theorem dX3_canStill_21 : decode cX3_canStill 21 = .ok (.invokevirtual 168, 3) := dk_182 0 168 (dk_at dksX3_canStill_0 21 rfl rfl)
theorem dX3_canStill_24 : decode cX3_canStill 24 = .ok (.aload_n 0, 1) := dk_42 (dk_at dksX3_canStill_1 0 rfl rfl)
theorem dX3_canStill_25 : decode cX3_canStill 25 = .ok (.iload_n 1, 1) := dk_27 (dk_at dksX3_canStill_1 1 rfl rfl)
theorem dX3_canStill_26 : decode cX3_canStill 26 = .ok (.invokevirtual 257, 3) := dk_182 1 1 (dk_at dksX3_canStill_1 2 rfl rfl)
theorem dX3_canStill_29 : decode cX3_canStill 29 = .ok (.if_icmp .gt 5, 3) := dk_163 0 5 (dk_at dksX3_canStill_1 5 rfl rfl)
theorem dX3_canStill_32 : decode cX3_canStill 32 = .ok (.iconst 1, 1) := dk_4 (dk_at dksX3_canStill_1 8 rfl rfl)
theorem dX3_canStill_33 : decode cX3_canStill 33 = .ok (.ireturn, 1) := dk_172 (dk_at dksX3_canStill_1 9 rfl rfl)
theorem dX3_canStill_34 : decode cX3_canStill 34 = .ok (.iinc 2 1, 3) := dk_132 2 1 (dk_at dksX3_canStill_1 10 rfl rfl)
theorem dX3_canStill_37 : decode cX3_canStill 37 = .ok (.goto (-35), 3) := dk_167 255 221 (dk_at dksX3_canStill_1 13 rfl rfl)
theorem dX3_canStill_40 : decode cX3_canStill 40 = .ok (.iconst 0, 1) := dk_3 (dk_at dksX3_canStill_1 16 rfl rfl)
theorem dX3_canStill_41 : decode cX3_canStill 41 = .ok (.ireturn, 1) := dk_172 (dk_at dksX3_canStill_1 17 rfl rfl)
/-- PackingDuelModel.canStill(I)Z -/
def zb220 (G : zPg) (C : zO) (args : List Value) (Q : zQ) (Y : zY) (σ : zS) : Prop := ∃ (a0 : Nat) (x1 : Int32), args = [.ref a0, .int x1] ∧ (∃ n, zIt (fun _ _ => False) (fun rec3 (p1 : Int32) (s2 : zS) => zrc s2 (some a0) 4 (fun a7 => zcl C 159 [.ref a7] Y s2 (zqI (fun v4 s5 => ((v4 ≤ p1) → zbool (0 : Int32) ∧ Q (some (.int (0 : Int32))) s5) ∧ ((¬ v4 ≤ p1) → zJ (fun  (s12 : zS) => (∀ v14 : Int32, v14 = p1 + (1 : Int32) → rec3 v14 s12)) (fun (j13 : zS → Prop) => ((¬ ((x1 >>> (p1 &&& 31)) &&& (1 : Int32)) = 0) → j13 s5) ∧ ((((x1 >>> (p1 &&& 31)) &&& (1 : Int32)) = 0) → zrc s5 (some a0) 4 (fun a20 => zcl C 167 [.ref a20, .int p1, .int (0 : Int32)] Y s5 (zqI (fun v17 s18 => zrc s18 (some a0) 4 (fun a27 => zcl C 184 [.ref a27, .int x1] Y s18 (zqI (fun v24 s25 => ((v24 < v17) → j13 s25) ∧ ((¬ v24 < v17) → zbool (1 : Int32) ∧ Q (some (.int (1 : Int32))) s25)))))))))))))) n (0 : Int32) σ)
set_option maxHeartbeats 4000000 in
theorem wk220 {l : Launch} {g : zG} {d : Nat} {C : zO} (hG : zGk g) (hC : zSound l g d C) {args : List Value} {Q : zQ} {Y : zY} {σ : zS} (hw : zb220 (zpg g) C args Q Y σ) : zMet l g (d + 1) (⟨"PackingDuelModel", "canStill", "(I)Z"⟩, Cond.code ⟨"PackingDuelModel", "canStill", "(I)Z"⟩ prog_28_method_50_code 3 (Option.some FieldType.boolean)) args σ Q Y := by
  obtain ⟨a0, x1, rfl, hw⟩ := hw
  refine zof hG (by decide +kernel) [false, false] ⟨rfl, rfl, trivial⟩ (Nat.le_of_ble_eq_true rfl) (ls := [some (va_rf (some a0)), some (.int x1), none]) rfl ?_
  intro X hX hR hTb hd1 hd2 hl hg hnm
  subst hl
  subst hg
  have hd : zDep X d := ⟨hd1, hd2⟩
  refine z_iconst hX (v := (0 : Int32)) dX3_canStill_0 (by decide) ?_
  refine z_istore_n hX dX3_canStill_1 rfl (i := 2) (Nat.le_of_ble_eq_true rfl) rfl (ls2 := [some (va_rf (some a0)), some (.int x1), some (.int (0 : Int32))]) rfl ?_
  obtain ⟨n32, hw⟩ := hw
  refine zIt_w (P := fun (j : Int32 → zS → Prop) => ∀ (p1 : Int32) (s2 : zS), j p1 s2 → zW X s2 2 [some (va_rf (some a0)), some (.int x1), some (.int p1)] []) (fun _ _ h => h.elim) (fun rec3 hrec3 p1 s2 hw => ?_) n32 _ _ hw
  refine z_iload_n hX dX3_canStill_2 rfl (i := 2) rfl ?_
  refine z_aload_n hX dX3_canStill_3 rfl (i := 0) rfl ?_
  obtain ⟨a7, f8, r9, m10, hw⟩ := hw
  refine z_invV hX hd r9 (ci := 4) rfl rfl m10 dX3_canStill_4 (hC 159 _ zm159 _ _ _ _ hw) q2605 q2607 qs46 zh7 q2608 q136 zn159 rfl (Nat.le_of_ble_eq_true rfl) (st := [.int p1]) rfl (zcs8 (Nat.le_of_ble_eq_true rfl)) rfl (zkI (fun v4 s5 hw => ?_)) (zout hX hR hTb)
  refine z_icmp_ge hX dX3_canStill_7 (tgt := 40) rfl (fun c11 => ?_) (fun c11 => ?_)
  · have hw := hw.1 c11
    refine z_iconst hX (v := (0 : Int32)) dX3_canStill_40 (by decide) ?_
    exact z_ireturn hX hR dX3_canStill_41 (zn_z hw.1) hw.2
  · have hw := hw.2 c11
    refine z_iload_n hX dX3_canStill_10 rfl (i := 1) rfl ?_
    refine z_iload_n hX dX3_canStill_11 rfl (i := 2) rfl ?_
    refine z_ishr hX dX3_canStill_12 ?_
    refine z_iconst hX (v := (1 : Int32)) dX3_canStill_13 (by decide) ?_
    refine z_iand hX dX3_canStill_14 ?_
    refine zJ_w (P := fun (j : zS → Prop) => ∀  (s12 : zS), j  s12 → zW X s12 34 [some (va_rf (some a0)), some (.int x1), some (.int p1)] []) hw (fun  s12 hw => ?_) (fun j13 hj13 hw => ?_)
    · obtain ⟨v14, e15⟩ : ∃ y : Int32, y = p1 + (1 : Int32) := ⟨_, rfl⟩
      refine z_iinc hX dX3_canStill_34 (i := 2) (v := v14) rfl (by rw [e15]; rfl) (Nat.le_of_ble_eq_true rfl) rfl (ls2 := [some (va_rf (some a0)), some (.int x1), some (.int v14)]) rfl ?_
      have hw := hw v14 e15
      refine z_goto hX dX3_canStill_37 (tgt := 2) rfl ?_
      exact hrec3 _ _ hw
    · refine z_if_ne hX dX3_canStill_15 (tgt := 34) rfl (fun c16 => ?_) (fun c16 => ?_)
      · have hw := hw.1 c16
        exact hj13  _ hw
      · have hw := hw.2 c16
        refine z_aload_n hX dX3_canStill_18 rfl (i := 0) rfl ?_
        refine z_iload_n hX dX3_canStill_19 rfl (i := 2) rfl ?_
        refine z_iconst hX (v := (0 : Int32)) dX3_canStill_20 (by decide) ?_
        obtain ⟨a20, f21, r22, m23, hw⟩ := hw
        refine z_invV hX hd r22 (ci := 4) rfl rfl m23 dX3_canStill_21 (hC 167 _ zm167 _ _ _ _ hw) q2635 q2637 qs51 zh7 q2638 q136 zn167 rfl (Nat.le_of_ble_eq_true rfl) (st := []) rfl (zcs8 (Nat.le_of_ble_eq_true rfl)) rfl (zkI (fun v17 s18 hw => ?_)) (zout hX hR hTb)
        refine z_aload_n hX dX3_canStill_24 rfl (i := 0) rfl ?_
        refine z_iload_n hX dX3_canStill_25 rfl (i := 1) rfl ?_
        obtain ⟨a27, f28, r29, m30, hw⟩ := hw
        refine z_invV hX hd r29 (ci := 4) rfl rfl m30 dX3_canStill_26 (hC 184 _ zm184 _ _ _ _ hw) q2703 q2705 qs62 zh7 q2706 q136 zn184 rfl (Nat.le_of_ble_eq_true rfl) (st := [.int v17]) rfl (zcs8 (Nat.le_of_ble_eq_true rfl)) rfl (zkI (fun v24 s25 hw => ?_)) (zout hX hR hTb)
        refine z_icmp_gt hX dX3_canStill_29 (tgt := 34) rfl (fun c31 => ?_) (fun c31 => ?_)
        · have hw := hw.1 c31
          exact hj13  _ hw
        · have hw := hw.2 c31
          refine z_iconst hX (v := (1 : Int32)) dX3_canStill_32 (by decide) ?_
          exact z_ireturn hX hR dX3_canStill_33 (zn_z hw.1) hw.2
abbrev cX3_reason : ByteArray := prog_28_method_80_code
def yX3_reason : MethodName := ⟨RX3, "reason", "(I)I"⟩
def dkwX3_reason_1 : List UInt8 := [182, 1, 33, 172]
abbrev dktX3_reason_1 : List UInt8 := dkwX3_reason_1 ++ []
def dkwX3_reason_0 : List UInt8 := [42, 3, 181, 0, 103, 42, 27, 182, 1, 36, 153, 0, 11, 42, 27, 182, 1, 73, 167, 0, 8, 42, 4]
abbrev dktX3_reason_0 : List UInt8 := dkwX3_reason_0 ++ dktX3_reason_1
theorem dksX3_reason_0 : cX3_reason.data.toList.drop 0 = dktX3_reason_0 := by decide +kernel
theorem dksX3_reason_1 : cX3_reason.data.toList.drop 23 = dktX3_reason_1 := dk_seg dksX3_reason_0 23 rfl rfl
theorem dX3_reason_0 : decode cX3_reason 0 = .ok (.aload_n 0, 1) := dk_42 (dk_at dksX3_reason_0 0 rfl rfl)
theorem dX3_reason_1 : decode cX3_reason 1 = .ok (.iconst 0, 1) := dk_3 (dk_at dksX3_reason_0 1 rfl rfl)
theorem dX3_reason_2 : decode cX3_reason 2 = .ok (.putfield 103, 3) := dk_181 0 103 (dk_at dksX3_reason_0 2 rfl rfl)
theorem dX3_reason_5 : decode cX3_reason 5 = .ok (.aload_n 0, 1) := dk_42 (dk_at dksX3_reason_0 5 rfl rfl)
theorem dX3_reason_6 : decode cX3_reason 6 = .ok (.iload_n 1, 1) := dk_27 (dk_at dksX3_reason_0 6 rfl rfl)
theorem dX3_reason_7 : decode cX3_reason 7 = .ok (.invokevirtual 292, 3) := dk_182 1 36 (dk_at dksX3_reason_0 7 rfl rfl)
theorem dX3_reason_10 : decode cX3_reason 10 = .ok (.ifCond .eq 11, 3) := dk_153 0 11 (dk_at dksX3_reason_0 10 rfl rfl)
theorem dX3_reason_13 : decode cX3_reason 13 = .ok (.aload_n 0, 1) := dk_42 (dk_at dksX3_reason_0 13 rfl rfl)
theorem dX3_reason_14 : decode cX3_reason 14 = .ok (.iload_n 1, 1) := dk_27 (dk_at dksX3_reason_0 14 rfl rfl)
theorem dX3_reason_15 : decode cX3_reason 15 = .ok (.invokevirtual 329, 3) := dk_182 1 73 (dk_at dksX3_reason_0 15 rfl rfl)
theorem dX3_reason_18 : decode cX3_reason 18 = .ok (.goto 8, 3) := dk_167 0 8 (dk_at dksX3_reason_0 18 rfl rfl)
theorem dX3_reason_21 : decode cX3_reason 21 = .ok (.aload_n 0, 1) := dk_42 (dk_at dksX3_reason_0 21 rfl rfl)
theorem dX3_reason_22 : decode cX3_reason 22 = .ok (.iconst 1, 1) := dk_4 (dk_at dksX3_reason_0 22 rfl rfl)
theorem dX3_reason_23 : decode cX3_reason 23 = .ok (.invokevirtual 289, 3) := dk_182 1 33 (dk_at dksX3_reason_1 0 rfl rfl)
theorem dX3_reason_26 : decode cX3_reason 26 = .ok (.ireturn, 1) := dk_172 (dk_at dksX3_reason_1 3 rfl rfl)
/-- PackingDuelModel.reason(I)I -/
def zb221 (G : zPg) (C : zO) (args : List Value) (Q : zQ) (Y : zY) (σ : zS) : Prop := ∃ (a0 : Nat) (x1 : Int32), args = [.ref a0, .int x1] ∧ (zput σ G.1 (some a0) 4 5 (.int (0 : Int32)) (fun s1 => zrc s1 (some a0) 4 (fun a12 => zcl C 165 [.ref a12, .int x1] Y s1 (zqI (fun v9 s10 => zJ (fun (p16 : Int32) (s17 : zS) => Q (some (.int p16)) s17) (fun (j18 : Int32 → zS → Prop) => ((v9 = 0) → zrc s10 (some a0) 4 (fun a23 => zcl C 163 [.ref a23, .int (1 : Int32)] Y s10 (zqI (fun v20 s21 => j18 v20 s21)))) ∧ ((¬ v9 = 0) → zrc s10 (some a0) 4 (fun a30 => zcl C 222 [.ref a30, .int x1] Y s10 (zqI (fun v27 s28 => j18 v27 s28))))))))))
set_option maxHeartbeats 4000000 in
theorem wk221 {l : Launch} {g : zG} {d : Nat} {C : zO} (hG : zGk g) (hC : zSound l g d C) {args : List Value} {Q : zQ} {Y : zY} {σ : zS} (hw : zb221 (zpg g) C args Q Y σ) : zMet l g (d + 1) (⟨"PackingDuelModel", "reason", "(I)I"⟩, Cond.code ⟨"PackingDuelModel", "reason", "(I)I"⟩ prog_28_method_80_code 2 (Option.some FieldType.int)) args σ Q Y := by
  obtain ⟨a0, x1, rfl, hw⟩ := hw
  refine zof hG (by decide +kernel) [false, false] ⟨rfl, rfl, trivial⟩ (Nat.le_of_ble_eq_true rfl) (ls := [some (va_rf (some a0)), some (.int x1)]) rfl ?_
  intro X hX hR hTb hd1 hd2 hl hg hnm
  subst hl
  subst hg
  have hd : zDep X d := ⟨hd1, hd2⟩
  refine z_aload_n hX dX3_reason_0 rfl (i := 0) rfl ?_
  refine z_iconst hX (v := (0 : Int32)) dX3_reason_1 (by decide) ?_
  obtain ⟨a3, f4, r5, g6, m7, l8, hw⟩ := hw
  refine z_put hX zc4 (k := 5) dX3_reason_2 (Nat.le_of_ble_eq_true rfl) (zlk hX q2474) rfl rfl rfl r5 g6 m7 l8 (z_nm (fun s1 e2 => ?_))
  have hw := hw s1 e2
  refine z_aload_n hX dX3_reason_5 rfl (i := 0) rfl ?_
  refine z_iload_n hX dX3_reason_6 rfl (i := 1) rfl ?_
  obtain ⟨a12, f13, r14, m15, hw⟩ := hw
  refine z_invV hX hd r14 (ci := 4) rfl rfl m15 dX3_reason_7 (hC 165 _ zm165 _ _ _ _ hw) q2628 q2630 qs50 zh7 q2631 q136 zn165 rfl (Nat.le_of_ble_eq_true rfl) (st := []) rfl (zcs8 (Nat.le_of_ble_eq_true rfl)) rfl (zkI (fun v9 s10 hw => ?_)) (zout hX hR hTb)
  refine zJ_w (P := fun (j : Int32 → zS → Prop) => ∀ (p16 : Int32) (s17 : zS), j p16 s17 → zW X s17 26 [none, none] [.int p16]) hw (fun p16 s17 hw => ?_) (fun j18 hj18 hw => ?_)
  · exact z_ireturn hX hR dX3_reason_26 rfl hw
  · refine z_if_eq hX dX3_reason_10 (tgt := 21) rfl (fun c19 => ?_) (fun c19 => ?_)
    · have hw := hw.1 c19
      refine z_aload_n hX dX3_reason_21 rfl (i := 0) rfl ?_
      refine z_iconst hX (v := (1 : Int32)) dX3_reason_22 (by decide) ?_
      obtain ⟨a23, f24, r25, m26, hw⟩ := hw
      refine z_invV hX hd r25 (ci := 4) rfl rfl m26 dX3_reason_23 (hC 163 _ zm163 _ _ _ _ hw) q2620 q2622 qs49 zh7 q2623 q136 zn163 rfl (Nat.le_of_ble_eq_true rfl) (st := []) rfl (zcs8 (Nat.le_of_ble_eq_true rfl)) rfl (zkI (fun v20 s21 hw => ?_)) (zout hX hR hTb)
      refine z_sub (ls' := [none, none]) (zsN (zsN (zs0))) ?_
      exact hj18 _ _ hw
    · have hw := hw.2 c19
      refine z_aload_n hX dX3_reason_13 rfl (i := 0) rfl ?_
      refine z_iload_n hX dX3_reason_14 rfl (i := 1) rfl ?_
      obtain ⟨a30, f31, r32, m33, hw⟩ := hw
      refine z_invV hX hd r32 (ci := 4) rfl rfl m33 dX3_reason_15 (hC 222 _ zm222 _ _ _ _ hw) q2853 q2855 qs85 zh7 q2856 q136 zn222 rfl (Nat.le_of_ble_eq_true rfl) (st := []) rfl (zcs8 (Nat.le_of_ble_eq_true rfl)) rfl (zkI (fun v27 s28 hw => ?_)) (zout hX hR hTb)
      refine z_goto hX dX3_reason_18 (tgt := 26) rfl ?_
      refine z_sub (ls' := [none, none]) (zsN (zsN (zs0))) ?_
      exact hj18 _ _ hw
abbrev cX3_reasonFor : ByteArray := prog_28_method_63_code
def yX3_reasonFor : MethodName := ⟨RX3, "reasonFor", "(I)I"⟩
def dkwX3_reasonFor_2 : List UInt8 := [180, 0, 9, 16, 8, 46, 27, 182, 1, 14, 153, 0, 7, 3, 167, 0, 4, 7, 172]
abbrev dktX3_reasonFor_2 : List UInt8 := dkwX3_reasonFor_2 ++ []
def dkwX3_reasonFor_1 : List UInt8 := [27, 3, 182, 0, 168, 42, 42, 182, 1, 23, 182, 1, 1, 164, 0, 5, 6, 172, 42, 42, 182, 1, 23, 42]
abbrev dktX3_reasonFor_1 : List UInt8 := dkwX3_reasonFor_1 ++ dktX3_reasonFor_2
def dkwX3_reasonFor_0 : List UInt8 := [42, 182, 1, 26, 153, 0, 5, 4, 172, 42, 182, 1, 23, 27, 122, 4, 126, 4, 160, 0, 5, 5, 172, 42]
abbrev dktX3_reasonFor_0 : List UInt8 := dkwX3_reasonFor_0 ++ dktX3_reasonFor_1
theorem dksX3_reasonFor_0 : cX3_reasonFor.data.toList.drop 0 = dktX3_reasonFor_0 := by decide +kernel
theorem dksX3_reasonFor_1 : cX3_reasonFor.data.toList.drop 24 = dktX3_reasonFor_1 := dk_seg dksX3_reasonFor_0 24 rfl rfl
theorem dksX3_reasonFor_2 : cX3_reasonFor.data.toList.drop 48 = dktX3_reasonFor_2 := dk_seg dksX3_reasonFor_1 24 rfl rfl
theorem dX3_reasonFor_0 : decode cX3_reasonFor 0 = .ok (.aload_n 0, 1) := dk_42 (dk_at dksX3_reasonFor_0 0 rfl rfl)
theorem dX3_reasonFor_1 : decode cX3_reasonFor 1 = .ok (.invokevirtual 282, 3) := dk_182 1 26 (dk_at dksX3_reasonFor_0 1 rfl rfl)
theorem dX3_reasonFor_4 : decode cX3_reasonFor 4 = .ok (.ifCond .eq 5, 3) := dk_153 0 5 (dk_at dksX3_reasonFor_0 4 rfl rfl)
theorem dX3_reasonFor_7 : decode cX3_reasonFor 7 = .ok (.iconst 1, 1) := dk_4 (dk_at dksX3_reasonFor_0 7 rfl rfl)
theorem dX3_reasonFor_8 : decode cX3_reasonFor 8 = .ok (.ireturn, 1) := dk_172 (dk_at dksX3_reasonFor_0 8 rfl rfl)
theorem dX3_reasonFor_9 : decode cX3_reasonFor 9 = .ok (.aload_n 0, 1) := dk_42 (dk_at dksX3_reasonFor_0 9 rfl rfl)
theorem dX3_reasonFor_10 : decode cX3_reasonFor 10 = .ok (.invokevirtual 279, 3) := dk_182 1 23 (dk_at dksX3_reasonFor_0 10 rfl rfl)
theorem dX3_reasonFor_13 : decode cX3_reasonFor 13 = .ok (.iload_n 1, 1) := dk_27 (dk_at dksX3_reasonFor_0 13 rfl rfl)
theorem dX3_reasonFor_14 : decode cX3_reasonFor 14 = .ok (.ishr, 1) := dk_122 (dk_at dksX3_reasonFor_0 14 rfl rfl)
theorem dX3_reasonFor_15 : decode cX3_reasonFor 15 = .ok (.iconst 1, 1) := dk_4 (dk_at dksX3_reasonFor_0 15 rfl rfl)
theorem dX3_reasonFor_16 : decode cX3_reasonFor 16 = .ok (.iand, 1) := dk_126 (dk_at dksX3_reasonFor_0 16 rfl rfl)
theorem dX3_reasonFor_17 : decode cX3_reasonFor 17 = .ok (.iconst 1, 1) := dk_4 (dk_at dksX3_reasonFor_0 17 rfl rfl)
theorem dX3_reasonFor_18 : decode cX3_reasonFor 18 = .ok (.if_icmp .ne 5, 3) := dk_160 0 5 (dk_at dksX3_reasonFor_0 18 rfl rfl)
theorem dX3_reasonFor_21 : decode cX3_reasonFor 21 = .ok (.iconst 2, 1) := dk_5 (dk_at dksX3_reasonFor_0 21 rfl rfl)
theorem dX3_reasonFor_22 : decode cX3_reasonFor 22 = .ok (.ireturn, 1) := dk_172 (dk_at dksX3_reasonFor_0 22 rfl rfl)
theorem dX3_reasonFor_23 : decode cX3_reasonFor 23 = .ok (.aload_n 0, 1) := dk_42 (dk_at dksX3_reasonFor_0 23 rfl rfl)
theorem dX3_reasonFor_24 : decode cX3_reasonFor 24 = .ok (.iload_n 1, 1) := dk_27 (dk_at dksX3_reasonFor_1 0 rfl rfl)
theorem dX3_reasonFor_25 : decode cX3_reasonFor 25 = .ok (.iconst 0, 1) := dk_3 (dk_at dksX3_reasonFor_1 1 rfl rfl)
theorem dX3_reasonFor_26 : decode cX3_reasonFor 26 = .ok (.invokevirtual 168, 3) := dk_182 0 168 (dk_at dksX3_reasonFor_1 2 rfl rfl)
theorem dX3_reasonFor_29 : decode cX3_reasonFor 29 = .ok (.aload_n 0, 1) := dk_42 (dk_at dksX3_reasonFor_1 5 rfl rfl)
theorem dX3_reasonFor_30 : decode cX3_reasonFor 30 = .ok (.aload_n 0, 1) := dk_42 (dk_at dksX3_reasonFor_1 6 rfl rfl)
theorem dX3_reasonFor_31 : decode cX3_reasonFor 31 = .ok (.invokevirtual 279, 3) := dk_182 1 23 (dk_at dksX3_reasonFor_1 7 rfl rfl)
theorem dX3_reasonFor_34 : decode cX3_reasonFor 34 = .ok (.invokevirtual 257, 3) := dk_182 1 1 (dk_at dksX3_reasonFor_1 10 rfl rfl)
theorem dX3_reasonFor_37 : decode cX3_reasonFor 37 = .ok (.if_icmp .le 5, 3) := dk_164 0 5 (dk_at dksX3_reasonFor_1 13 rfl rfl)
theorem dX3_reasonFor_40 : decode cX3_reasonFor 40 = .ok (.iconst 3, 1) := dk_6 (dk_at dksX3_reasonFor_1 16 rfl rfl)
theorem dX3_reasonFor_41 : decode cX3_reasonFor 41 = .ok (.ireturn, 1) := dk_172 (dk_at dksX3_reasonFor_1 17 rfl rfl)
theorem dX3_reasonFor_42 : decode cX3_reasonFor 42 = .ok (.aload_n 0, 1) := dk_42 (dk_at dksX3_reasonFor_1 18 rfl rfl)
theorem dX3_reasonFor_43 : decode cX3_reasonFor 43 = .ok (.aload_n 0, 1) := dk_42 (dk_at dksX3_reasonFor_1 19 rfl rfl)
theorem dX3_reasonFor_44 : decode cX3_reasonFor 44 = .ok (.invokevirtual 279, 3) := dk_182 1 23 (dk_at dksX3_reasonFor_1 20 rfl rfl)
theorem dX3_reasonFor_47 : decode cX3_reasonFor 47 = .ok (.aload_n 0, 1) := dk_42 (dk_at dksX3_reasonFor_1 23 rfl rfl)
theorem dX3_reasonFor_48 : decode cX3_reasonFor 48 = .ok (.getfield 9, 3) := dk_180 0 9 (dk_at dksX3_reasonFor_2 0 rfl rfl)
theorem dX3_reasonFor_51 : decode cX3_reasonFor 51 = .ok (.bipush 8, 2) := dk_16 8 (dk_at dksX3_reasonFor_2 3 rfl rfl)
theorem dX3_reasonFor_53 : decode cX3_reasonFor 53 = .ok (.iaload, 1) := dk_46 (dk_at dksX3_reasonFor_2 5 rfl rfl)
theorem dX3_reasonFor_54 : decode cX3_reasonFor 54 = .ok (.iload_n 1, 1) := dk_27 (dk_at dksX3_reasonFor_2 6 rfl rfl)
theorem dX3_reasonFor_55 : decode cX3_reasonFor 55 = .ok (.invokevirtual 270, 3) := dk_182 1 14 (dk_at dksX3_reasonFor_2 7 rfl rfl)
theorem dX3_reasonFor_58 : decode cX3_reasonFor 58 = .ok (.ifCond .eq 7, 3) := dk_153 0 7 (dk_at dksX3_reasonFor_2 10 rfl rfl)
theorem dX3_reasonFor_61 : decode cX3_reasonFor 61 = .ok (.iconst 0, 1) := dk_3 (dk_at dksX3_reasonFor_2 13 rfl rfl)
theorem dX3_reasonFor_62 : decode cX3_reasonFor 62 = .ok (.goto 4, 3) := dk_167 0 4 (dk_at dksX3_reasonFor_2 14 rfl rfl)
theorem dX3_reasonFor_65 : decode cX3_reasonFor 65 = .ok (.iconst 4, 1) := dk_7 (dk_at dksX3_reasonFor_2 17 rfl rfl)
theorem dX3_reasonFor_66 : decode cX3_reasonFor 66 = .ok (.ireturn, 1) := dk_172 (dk_at dksX3_reasonFor_2 18 rfl rfl)
/-- PackingDuelModel.reasonFor(I)I -/
def zb222 (G : zPg) (C : zO) (args : List Value) (Q : zQ) (Y : zY) (σ : zS) : Prop := ∃ (a0 : Nat) (x1 : Int32), args = [.ref a0, .int x1] ∧ (zrc σ (some a0) 4 (fun a4 => zcl C 219 [.ref a4] Y σ (zqI (fun v1 s2 => ((v1 = 0) → zrc s2 (some a0) 4 (fun a12 => zcl C 216 [.ref a12] Y s2 (zqI (fun v9 s10 => ((¬ ((v9 >>> (x1 &&& 31)) &&& (1 : Int32)) = (1 : Int32)) → zrc s10 (some a0) 4 (fun a20 => zcl C 167 [.ref a20, .int x1, .int (0 : Int32)] Y s10 (zqI (fun v17 s18 => zrc s18 (some a0) 4 (fun a27 => zcl C 216 [.ref a27] Y s18 (zqI (fun v24 s25 => zrc s25 (some a0) 4 (fun a34 => zcl C 184 [.ref a34, .int v24] Y s25 (zqI (fun v31 s32 => ((v17 ≤ v31) → zrc s32 (some a0) 4 (fun a42 => zcl C 216 [.ref a42] Y s32 (zqI (fun v39 s40 => zgR s40 (some a0) 4 0 (fun v46 => zaI s40 0 v46 (8 : Int32) (fun v58 => zrc s40 (some a0) 4 (fun a63 => zcl C 223 [.ref a63, .int v39, .int v58, .int x1] Y s40 (zqI (fun v60 s61 => zJ (fun (p67 : Int32) (s68 : zS) => Q (some (.int p67)) s68) (fun (j69 : Int32 → zS → Prop) => ((v60 = 0) → j69 (4 : Int32) s61) ∧ ((¬ v60 = 0) → j69 (0 : Int32) s61))))))))))) ∧ ((¬ v17 ≤ v31) → Q (some (.int (3 : Int32))) s32))))))))))) ∧ ((((v9 >>> (x1 &&& 31)) &&& (1 : Int32)) = (1 : Int32)) → Q (some (.int (2 : Int32))) s10))))) ∧ ((¬ v1 = 0) → Q (some (.int (1 : Int32))) s2)))))
set_option maxHeartbeats 4000000 in
theorem wk222 {l : Launch} {g : zG} {d : Nat} {C : zO} (hG : zGk g) (hC : zSound l g d C) {args : List Value} {Q : zQ} {Y : zY} {σ : zS} (hw : zb222 (zpg g) C args Q Y σ) : zMet l g (d + 1) (⟨"PackingDuelModel", "reasonFor", "(I)I"⟩, Cond.code ⟨"PackingDuelModel", "reasonFor", "(I)I"⟩ prog_28_method_63_code 2 (Option.some FieldType.int)) args σ Q Y := by
  obtain ⟨a0, x1, rfl, hw⟩ := hw
  refine zof hG (by decide +kernel) [false, false] ⟨rfl, rfl, trivial⟩ (Nat.le_of_ble_eq_true rfl) (ls := [some (va_rf (some a0)), some (.int x1)]) rfl ?_
  intro X hX hR hTb hd1 hd2 hl hg hnm
  subst hl
  subst hg
  have hd : zDep X d := ⟨hd1, hd2⟩
  refine z_aload_n hX dX3_reasonFor_0 rfl (i := 0) rfl ?_
  obtain ⟨a4, f5, r6, m7, hw⟩ := hw
  refine z_invV hX hd r6 (ci := 4) rfl rfl m7 dX3_reasonFor_1 (hC 219 _ zm219 _ _ _ _ hw) q2841 q2843 qs83 zh7 q2844 q136 zn219 rfl (Nat.le_of_ble_eq_true rfl) (st := []) rfl (zcs8 (Nat.le_of_ble_eq_true rfl)) rfl (zkI (fun v1 s2 hw => ?_)) (zout hX hR hTb)
  refine z_if_eq hX dX3_reasonFor_4 (tgt := 9) rfl (fun c8 => ?_) (fun c8 => ?_)
  · have hw := hw.1 c8
    refine z_aload_n hX dX3_reasonFor_9 rfl (i := 0) rfl ?_
    obtain ⟨a12, f13, r14, m15, hw⟩ := hw
    refine z_invV hX hd r14 (ci := 4) rfl rfl m15 dX3_reasonFor_10 (hC 216 _ zm216 _ _ _ _ hw) q2829 q2831 qs80 zh7 q2832 q136 zn216 rfl (Nat.le_of_ble_eq_true rfl) (st := []) rfl (zcs8 (Nat.le_of_ble_eq_true rfl)) rfl (zkI (fun v9 s10 hw => ?_)) (zout hX hR hTb)
    refine z_iload_n hX dX3_reasonFor_13 rfl (i := 1) rfl ?_
    refine z_ishr hX dX3_reasonFor_14 ?_
    refine z_iconst hX (v := (1 : Int32)) dX3_reasonFor_15 (by decide) ?_
    refine z_iand hX dX3_reasonFor_16 ?_
    refine z_iconst hX (v := (1 : Int32)) dX3_reasonFor_17 (by decide) ?_
    refine z_icmp_ne hX dX3_reasonFor_18 (tgt := 23) rfl (fun c16 => ?_) (fun c16 => ?_)
    · have hw := hw.1 c16
      refine z_aload_n hX dX3_reasonFor_23 rfl (i := 0) rfl ?_
      refine z_iload_n hX dX3_reasonFor_24 rfl (i := 1) rfl ?_
      refine z_iconst hX (v := (0 : Int32)) dX3_reasonFor_25 (by decide) ?_
      obtain ⟨a20, f21, r22, m23, hw⟩ := hw
      refine z_invV hX hd r22 (ci := 4) rfl rfl m23 dX3_reasonFor_26 (hC 167 _ zm167 _ _ _ _ hw) q2635 q2637 qs51 zh7 q2638 q136 zn167 rfl (Nat.le_of_ble_eq_true rfl) (st := []) rfl (zcs8 (Nat.le_of_ble_eq_true rfl)) rfl (zkI (fun v17 s18 hw => ?_)) (zout hX hR hTb)
      refine z_aload_n hX dX3_reasonFor_29 rfl (i := 0) rfl ?_
      refine z_aload_n hX dX3_reasonFor_30 rfl (i := 0) rfl ?_
      obtain ⟨a27, f28, r29, m30, hw⟩ := hw
      refine z_invV hX hd r29 (ci := 4) rfl rfl m30 dX3_reasonFor_31 (hC 216 _ zm216 _ _ _ _ hw) q2829 q2831 qs80 zh7 q2832 q136 zn216 rfl (Nat.le_of_ble_eq_true rfl) (st := [va_rf (some a0), .int v17]) rfl (zcs8 (Nat.le_of_ble_eq_true rfl)) rfl (zkI (fun v24 s25 hw => ?_)) (zout hX hR hTb)
      obtain ⟨a34, f35, r36, m37, hw⟩ := hw
      refine z_invV hX hd r36 (ci := 4) rfl rfl m37 dX3_reasonFor_34 (hC 184 _ zm184 _ _ _ _ hw) q2703 q2705 qs62 zh7 q2706 q136 zn184 rfl (Nat.le_of_ble_eq_true rfl) (st := [.int v17]) rfl (zcs8 (Nat.le_of_ble_eq_true rfl)) rfl (zkI (fun v31 s32 hw => ?_)) (zout hX hR hTb)
      refine z_icmp_le hX dX3_reasonFor_37 (tgt := 42) rfl (fun c38 => ?_) (fun c38 => ?_)
      · have hw := hw.1 c38
        refine z_aload_n hX dX3_reasonFor_42 rfl (i := 0) rfl ?_
        refine z_aload_n hX dX3_reasonFor_43 rfl (i := 0) rfl ?_
        obtain ⟨a42, f43, r44, m45, hw⟩ := hw
        refine z_invV hX hd r44 (ci := 4) rfl rfl m45 dX3_reasonFor_44 (hC 216 _ zm216 _ _ _ _ hw) q2829 q2831 qs80 zh7 q2832 q136 zn216 rfl (Nat.le_of_ble_eq_true rfl) (st := [va_rf (some a0)]) rfl (zcs8 (Nat.le_of_ble_eq_true rfl)) rfl (zkI (fun v39 s40 hw => ?_)) (zout hX hR hTb)
        refine z_aload_n hX dX3_reasonFor_47 rfl (i := 0) rfl ?_
        obtain ⟨a47, f48, v46, r49, m50, e51, hw⟩ := hw
        refine z_get hX zc4 (k := 0) dX3_reasonFor_48 (Nat.le_of_ble_eq_true rfl) (zlk hX q2469) r49 m50 e51 ?_
        refine z_bipush hX (v := (8 : Int32)) dX3_reasonFor_51 (by decide) ?_
        obtain ⟨a52, n53, f54, r55, m56, i57, hw⟩ := hw
        refine z_iald hX dX3_reasonFor_53 r55 m56 i57 ?_
        revert hw
        generalize f54 (Int32.toNatClampNeg (8 : Int32)) = v58
        intro hw
        refine z_iload_n hX dX3_reasonFor_54 rfl (i := 1) rfl ?_
        obtain ⟨a63, f64, r65, m66, hw⟩ := hw
        refine z_invV hX hd r65 (ci := 4) rfl rfl m66 dX3_reasonFor_55 (hC 223 _ zm223 _ _ _ _ hw) q2857 q2859 qs86 zh7 q2860 q136 zn223 rfl (Nat.le_of_ble_eq_true rfl) (st := []) rfl (zcs8 (Nat.le_of_ble_eq_true rfl)) rfl (zkI (fun v60 s61 hw => ?_)) (zout hX hR hTb)
        refine zJ_w (P := fun (j : Int32 → zS → Prop) => ∀ (p67 : Int32) (s68 : zS), j p67 s68 → zW X s68 66 [none, none] [.int p67]) hw (fun p67 s68 hw => ?_) (fun j69 hj69 hw => ?_)
        · exact z_ireturn hX hR dX3_reasonFor_66 rfl hw
        · refine z_if_eq hX dX3_reasonFor_58 (tgt := 65) rfl (fun c70 => ?_) (fun c70 => ?_)
          · have hw := hw.1 c70
            refine z_iconst hX (v := (4 : Int32)) dX3_reasonFor_65 (by decide) ?_
            refine z_sub (ls' := [none, none]) (zsN (zsN (zs0))) ?_
            exact hj69 _ _ hw
          · have hw := hw.2 c70
            refine z_iconst hX (v := (0 : Int32)) dX3_reasonFor_61 (by decide) ?_
            refine z_goto hX dX3_reasonFor_62 (tgt := 66) rfl ?_
            refine z_sub (ls' := [none, none]) (zsN (zsN (zs0))) ?_
            exact hj69 _ _ hw
      · have hw := hw.2 c38
        refine z_iconst hX (v := (3 : Int32)) dX3_reasonFor_40 (by decide) ?_
        exact z_ireturn hX hR dX3_reasonFor_41 rfl hw
    · have hw := hw.2 c16
      refine z_iconst hX (v := (2 : Int32)) dX3_reasonFor_21 (by decide) ?_
      exact z_ireturn hX hR dX3_reasonFor_22 rfl hw
  · have hw := hw.2 c8
    refine z_iconst hX (v := (1 : Int32)) dX3_reasonFor_7 (by decide) ?_
    exact z_ireturn hX hR dX3_reasonFor_8 rfl hw
abbrev cX3_mayTake : ByteArray := prog_28_method_51_code
def yX3_mayTake : MethodName := ⟨RX3, "mayTake", "(III)Z"⟩
def dkwX3_mayTake_2 : List UInt8 := [5, 46, 161, 0, 7, 4, 167, 0, 4, 3, 172]
abbrev dktX3_mayTake_2 : List UInt8 := dkwX3_mayTake_2 ++ []
def dkwX3_mayTake_1 : List UInt8 := [167, 0, 4, 3, 54, 4, 21, 4, 153, 0, 25, 28, 153, 0, 17, 42, 27, 182, 1, 1, 42, 180, 0, 9]
abbrev dktX3_mayTake_1 : List UInt8 := dkwX3_mayTake_1 ++ dktX3_mayTake_2
def dkwX3_mayTake_0 : List UInt8 := [27, 29, 122, 4, 126, 154, 0, 21, 42, 29, 3, 182, 0, 168, 42, 27, 182, 1, 1, 163, 0, 7, 4]
abbrev dktX3_mayTake_0 : List UInt8 := dkwX3_mayTake_0 ++ dktX3_mayTake_1
theorem dksX3_mayTake_0 : cX3_mayTake.data.toList.drop 0 = dktX3_mayTake_0 := by decide +kernel
theorem dksX3_mayTake_1 : cX3_mayTake.data.toList.drop 23 = dktX3_mayTake_1 := dk_seg dksX3_mayTake_0 23 rfl rfl
theorem dksX3_mayTake_2 : cX3_mayTake.data.toList.drop 47 = dktX3_mayTake_2 := dk_seg dksX3_mayTake_1 24 rfl rfl
theorem dX3_mayTake_0 : decode cX3_mayTake 0 = .ok (.iload_n 1, 1) := dk_27 (dk_at dksX3_mayTake_0 0 rfl rfl)
theorem dX3_mayTake_1 : decode cX3_mayTake 1 = .ok (.iload_n 3, 1) := dk_29 (dk_at dksX3_mayTake_0 1 rfl rfl)
theorem dX3_mayTake_2 : decode cX3_mayTake 2 = .ok (.ishr, 1) := dk_122 (dk_at dksX3_mayTake_0 2 rfl rfl)
theorem dX3_mayTake_3 : decode cX3_mayTake 3 = .ok (.iconst 1, 1) := dk_4 (dk_at dksX3_mayTake_0 3 rfl rfl)
theorem dX3_mayTake_4 : decode cX3_mayTake 4 = .ok (.iand, 1) := dk_126 (dk_at dksX3_mayTake_0 4 rfl rfl)
theorem dX3_mayTake_5 : decode cX3_mayTake 5 = .ok (.ifCond .ne 21, 3) := dk_154 0 21 (dk_at dksX3_mayTake_0 5 rfl rfl)
theorem dX3_mayTake_8 : decode cX3_mayTake 8 = .ok (.aload_n 0, 1) := dk_42 (dk_at dksX3_mayTake_0 8 rfl rfl)
theorem dX3_mayTake_9 : decode cX3_mayTake 9 = .ok (.iload_n 3, 1) := dk_29 (dk_at dksX3_mayTake_0 9 rfl rfl)
theorem dX3_mayTake_10 : decode cX3_mayTake 10 = .ok (.iconst 0, 1) := dk_3 (dk_at dksX3_mayTake_0 10 rfl rfl)
theorem dX3_mayTake_11 : decode cX3_mayTake 11 = .ok (.invokevirtual 168, 3) := dk_182 0 168 (dk_at dksX3_mayTake_0 11 rfl rfl)
theorem dX3_mayTake_14 : decode cX3_mayTake 14 = .ok (.aload_n 0, 1) := dk_42 (dk_at dksX3_mayTake_0 14 rfl rfl)
theorem dX3_mayTake_15 : decode cX3_mayTake 15 = .ok (.iload_n 1, 1) := dk_27 (dk_at dksX3_mayTake_0 15 rfl rfl)
theorem dX3_mayTake_16 : decode cX3_mayTake 16 = .ok (.invokevirtual 257, 3) := dk_182 1 1 (dk_at dksX3_mayTake_0 16 rfl rfl)
theorem dX3_mayTake_19 : decode cX3_mayTake 19 = .ok (.if_icmp .gt 7, 3) := dk_163 0 7 (dk_at dksX3_mayTake_0 19 rfl rfl)
theorem dX3_mayTake_22 : decode cX3_mayTake 22 = .ok (.iconst 1, 1) := dk_4 (dk_at dksX3_mayTake_0 22 rfl rfl)
theorem dX3_mayTake_23 : decode cX3_mayTake 23 = .ok (.goto 4, 3) := dk_167 0 4 (dk_at dksX3_mayTake_1 0 rfl rfl)
theorem dX3_mayTake_26 : decode cX3_mayTake 26 = .ok (.iconst 0, 1) := dk_3 (dk_at dksX3_mayTake_1 3 rfl rfl)
theorem dX3_mayTake_27 : decode cX3_mayTake 27 = .ok (.istore 4, 2) := dk_54 4 (dk_at dksX3_mayTake_1 4 rfl rfl)
theorem dX3_mayTake_29 : decode cX3_mayTake 29 = .ok (.iload 4, 2) := dk_21 4 (dk_at dksX3_mayTake_1 6 rfl rfl)
theorem dX3_mayTake_31 : decode cX3_mayTake 31 = .ok (.ifCond .eq 25, 3) := dk_153 0 25 (dk_at dksX3_mayTake_1 8 rfl rfl)
theorem dX3_mayTake_34 : decode cX3_mayTake 34 = .ok (.iload_n 2, 1) := dk_28 (dk_at dksX3_mayTake_1 11 rfl rfl)
theorem dX3_mayTake_35 : decode cX3_mayTake 35 = .ok (.ifCond .eq 17, 3) := dk_153 0 17 (dk_at dksX3_mayTake_1 12 rfl rfl)
theorem dX3_mayTake_38 : decode cX3_mayTake 38 = .ok (.aload_n 0, 1) := dk_42 (dk_at dksX3_mayTake_1 15 rfl rfl)
theorem dX3_mayTake_39 : decode cX3_mayTake 39 = .ok (.iload_n 1, 1) := dk_27 (dk_at dksX3_mayTake_1 16 rfl rfl)
theorem dX3_mayTake_40 : decode cX3_mayTake 40 = .ok (.invokevirtual 257, 3) := dk_182 1 1 (dk_at dksX3_mayTake_1 17 rfl rfl)
theorem dX3_mayTake_43 : decode cX3_mayTake 43 = .ok (.aload_n 0, 1) := dk_42 (dk_at dksX3_mayTake_1 20 rfl rfl)
theorem dX3_mayTake_44 : decode cX3_mayTake 44 = .ok (.getfield 9, 3) := dk_180 0 9 (dk_at dksX3_mayTake_1 21 rfl rfl)
theorem dX3_mayTake_47 : decode cX3_mayTake 47 = .ok (.iconst 2, 1) := dk_5 (dk_at dksX3_mayTake_2 0 rfl rfl)
theorem dX3_mayTake_48 : decode cX3_mayTake 48 = .ok (.iaload, 1) := dk_46 (dk_at dksX3_mayTake_2 1 rfl rfl)
theorem dX3_mayTake_49 : decode cX3_mayTake 49 = .ok (.if_icmp .lt 7, 3) := dk_161 0 7 (dk_at dksX3_mayTake_2 2 rfl rfl)
theorem dX3_mayTake_52 : decode cX3_mayTake 52 = .ok (.iconst 1, 1) := dk_4 (dk_at dksX3_mayTake_2 5 rfl rfl)
theorem dX3_mayTake_53 : decode cX3_mayTake 53 = .ok (.goto 4, 3) := dk_167 0 4 (dk_at dksX3_mayTake_2 6 rfl rfl)
theorem dX3_mayTake_56 : decode cX3_mayTake 56 = .ok (.iconst 0, 1) := dk_3 (dk_at dksX3_mayTake_2 9 rfl rfl)
theorem dX3_mayTake_57 : decode cX3_mayTake 57 = .ok (.ireturn, 1) := dk_172 (dk_at dksX3_mayTake_2 10 rfl rfl)
/-- PackingDuelModel.mayTake(III)Z -/
def zb223 (G : zPg) (C : zO) (args : List Value) (Q : zQ) (Y : zY) (σ : zS) : Prop := ∃ (a0 : Nat) (x1 : Int32) (x2 : Int32) (x3 : Int32), args = [.ref a0, .int x1, .int x2, .int x3] ∧ (zJ (fun (p1 : Int32) (s2 : zS) => zJ (fun (p4 : Int32) (s5 : zS) => zbool p4 ∧ Q (some (.int p4)) s5) (fun (j6 : Int32 → zS → Prop) => zJ (fun  (s7 : zS) => j6 (0 : Int32) s7) (fun (j8 : zS → Prop) => ((p1 = 0) → j8 s2) ∧ ((¬ p1 = 0) → zJ (fun  (s10 : zS) => j6 (1 : Int32) s10) (fun (j11 : zS → Prop) => ((x2 = 0) → j11 s2) ∧ ((¬ x2 = 0) → zrc s2 (some a0) 4 (fun a16 => zcl C 184 [.ref a16, .int x1] Y s2 (zqI (fun v13 s14 => zgR s14 (some a0) 4 0 (fun v20 => zaI s14 0 v20 (2 : Int32) (fun v32 => ((v13 < v32) → j8 s14) ∧ ((¬ v13 < v32) → j11 s14)))))))))))) (fun (j3 : Int32 → zS → Prop) => zJ (fun  (s35 : zS) => j3 (0 : Int32) s35) (fun (j36 : zS → Prop) => ((¬ ((x1 >>> (x3 &&& 31)) &&& (1 : Int32)) = 0) → j36 σ) ∧ ((((x1 >>> (x3 &&& 31)) &&& (1 : Int32)) = 0) → zrc σ (some a0) 4 (fun a41 => zcl C 167 [.ref a41, .int x3, .int (0 : Int32)] Y σ (zqI (fun v38 s39 => zrc s39 (some a0) 4 (fun a48 => zcl C 184 [.ref a48, .int x1] Y s39 (zqI (fun v45 s46 => ((v45 < v38) → j36 s46) ∧ ((¬ v45 < v38) → j3 (1 : Int32) s46)))))))))))
set_option maxHeartbeats 4000000 in
theorem wk223 {l : Launch} {g : zG} {d : Nat} {C : zO} (hG : zGk g) (hC : zSound l g d C) {args : List Value} {Q : zQ} {Y : zY} {σ : zS} (hw : zb223 (zpg g) C args Q Y σ) : zMet l g (d + 1) (⟨"PackingDuelModel", "mayTake", "(III)Z"⟩, Cond.code ⟨"PackingDuelModel", "mayTake", "(III)Z"⟩ prog_28_method_51_code 5 (Option.some FieldType.boolean)) args σ Q Y := by
  obtain ⟨a0, x1, x2, x3, rfl, hw⟩ := hw
  refine zof hG (by decide +kernel) [false, false, false, false] ⟨rfl, rfl, rfl, rfl, trivial⟩ (Nat.le_of_ble_eq_true rfl) (ls := [some (va_rf (some a0)), some (.int x1), some (.int x2), some (.int x3), none]) rfl ?_
  intro X hX hR hTb hd1 hd2 hl hg hnm
  subst hl
  subst hg
  have hd : zDep X d := ⟨hd1, hd2⟩
  refine z_iload_n hX dX3_mayTake_0 rfl (i := 1) rfl ?_
  refine z_iload_n hX dX3_mayTake_1 rfl (i := 3) rfl ?_
  refine z_ishr hX dX3_mayTake_2 ?_
  refine z_iconst hX (v := (1 : Int32)) dX3_mayTake_3 (by decide) ?_
  refine z_iand hX dX3_mayTake_4 ?_
  refine zJ_w (P := fun (j : Int32 → zS → Prop) => ∀ (p1 : Int32) (s2 : zS), j p1 s2 → zW X s2 27 [some (va_rf (some a0)), some (.int x1), some (.int x2), none, none] [.int p1]) hw (fun p1 s2 hw => ?_) (fun j3 hj3 hw => ?_)
  · refine z_istore hX dX3_mayTake_27 (i := 4) (Nat.le_of_ble_eq_true rfl) trivial (ls2 := [some (va_rf (some a0)), some (.int x1), some (.int x2), none, some (.int p1)]) rfl ?_
    refine z_iload hX dX3_mayTake_29 (i := 4) rfl ?_
    refine zJ_w (P := fun (j : Int32 → zS → Prop) => ∀ (p4 : Int32) (s5 : zS), j p4 s5 → zW X s5 57 [none, none, none, none, none] [.int p4]) hw (fun p4 s5 hw => ?_) (fun j6 hj6 hw => ?_)
    · exact z_ireturn hX hR dX3_mayTake_57 (zn_z hw.1) hw.2
    · refine zJ_w (P := fun (j : zS → Prop) => ∀  (s7 : zS), j  s7 → zW X s7 56 [none, none, none, none, none] []) hw (fun  s7 hw => ?_) (fun j8 hj8 hw => ?_)
      · refine z_iconst hX (v := (0 : Int32)) dX3_mayTake_56 (by decide) ?_
        exact hj6 _ _ hw
      · refine z_if_eq hX dX3_mayTake_31 (tgt := 56) rfl (fun c9 => ?_) (fun c9 => ?_)
        · have hw := hw.1 c9
          refine z_sub (ls' := [none, none, none, none, none]) (zsN (zsN (zsN (zsN (zsN (zs0)))))) ?_
          exact hj8  _ hw
        · have hw := hw.2 c9
          refine z_iload_n hX dX3_mayTake_34 rfl (i := 2) rfl ?_
          refine zJ_w (P := fun (j : zS → Prop) => ∀  (s10 : zS), j  s10 → zW X s10 52 [none, none, none, none, none] []) hw (fun  s10 hw => ?_) (fun j11 hj11 hw => ?_)
          · refine z_iconst hX (v := (1 : Int32)) dX3_mayTake_52 (by decide) ?_
            refine z_goto hX dX3_mayTake_53 (tgt := 57) rfl ?_
            exact hj6 _ _ hw
          · refine z_if_eq hX dX3_mayTake_35 (tgt := 52) rfl (fun c12 => ?_) (fun c12 => ?_)
            · have hw := hw.1 c12
              refine z_sub (ls' := [none, none, none, none, none]) (zsN (zsN (zsN (zsN (zsN (zs0)))))) ?_
              exact hj11  _ hw
            · have hw := hw.2 c12
              refine z_aload_n hX dX3_mayTake_38 rfl (i := 0) rfl ?_
              refine z_iload_n hX dX3_mayTake_39 rfl (i := 1) rfl ?_
              obtain ⟨a16, f17, r18, m19, hw⟩ := hw
              refine z_invV hX hd r18 (ci := 4) rfl rfl m19 dX3_mayTake_40 (hC 184 _ zm184 _ _ _ _ hw) q2703 q2705 qs62 zh7 q2706 q136 zn184 rfl (Nat.le_of_ble_eq_true rfl) (st := []) rfl (zcs8 (Nat.le_of_ble_eq_true rfl)) rfl (zkI (fun v13 s14 hw => ?_)) (zout hX hR hTb)
              refine z_aload_n hX dX3_mayTake_43 rfl (i := 0) rfl ?_
              obtain ⟨a21, f22, v20, r23, m24, e25, hw⟩ := hw
              refine z_get hX zc4 (k := 0) dX3_mayTake_44 (Nat.le_of_ble_eq_true rfl) (zlk hX q2469) r23 m24 e25 ?_
              refine z_iconst hX (v := (2 : Int32)) dX3_mayTake_47 (by decide) ?_
              obtain ⟨a26, n27, f28, r29, m30, i31, hw⟩ := hw
              refine z_iald hX dX3_mayTake_48 r29 m30 i31 ?_
              revert hw
              generalize f28 (Int32.toNatClampNeg (2 : Int32)) = v32
              intro hw
              refine z_icmp_lt hX dX3_mayTake_49 (tgt := 56) rfl (fun c34 => ?_) (fun c34 => ?_)
              · have hw := hw.1 c34
                refine z_sub (ls' := [none, none, none, none, none]) (zsN (zsN (zsN (zsN (zsN (zs0)))))) ?_
                exact hj8  _ hw
              · have hw := hw.2 c34
                refine z_sub (ls' := [none, none, none, none, none]) (zsN (zsN (zsN (zsN (zsN (zs0)))))) ?_
                exact hj11  _ hw
  · refine zJ_w (P := fun (j : zS → Prop) => ∀  (s35 : zS), j  s35 → zW X s35 26 [some (va_rf (some a0)), some (.int x1), some (.int x2), none, none] []) hw (fun  s35 hw => ?_) (fun j36 hj36 hw => ?_)
    · refine z_iconst hX (v := (0 : Int32)) dX3_mayTake_26 (by decide) ?_
      exact hj3 _ _ hw
    · refine z_if_ne hX dX3_mayTake_5 (tgt := 26) rfl (fun c37 => ?_) (fun c37 => ?_)
      · have hw := hw.1 c37
        refine z_sub (ls' := [some (va_rf (some a0)), some (.int x1), some (.int x2), none, none]) (zsS (zsS (zsS (zsN (zsN (zs0)))))) ?_
        exact hj36  _ hw
      · have hw := hw.2 c37
        refine z_aload_n hX dX3_mayTake_8 rfl (i := 0) rfl ?_
        refine z_iload_n hX dX3_mayTake_9 rfl (i := 3) rfl ?_
        refine z_iconst hX (v := (0 : Int32)) dX3_mayTake_10 (by decide) ?_
        obtain ⟨a41, f42, r43, m44, hw⟩ := hw
        refine z_invV hX hd r43 (ci := 4) rfl rfl m44 dX3_mayTake_11 (hC 167 _ zm167 _ _ _ _ hw) q2635 q2637 qs51 zh7 q2638 q136 zn167 rfl (Nat.le_of_ble_eq_true rfl) (st := []) rfl (zcs8 (Nat.le_of_ble_eq_true rfl)) rfl (zkI (fun v38 s39 hw => ?_)) (zout hX hR hTb)
        refine z_aload_n hX dX3_mayTake_14 rfl (i := 0) rfl ?_
        refine z_iload_n hX dX3_mayTake_15 rfl (i := 1) rfl ?_
        obtain ⟨a48, f49, r50, m51, hw⟩ := hw
        refine z_invV hX hd r50 (ci := 4) rfl rfl m51 dX3_mayTake_16 (hC 184 _ zm184 _ _ _ _ hw) q2703 q2705 qs62 zh7 q2706 q136 zn184 rfl (Nat.le_of_ble_eq_true rfl) (st := [.int v38]) rfl (zcs8 (Nat.le_of_ble_eq_true rfl)) rfl (zkI (fun v45 s46 hw => ?_)) (zout hX hR hTb)
        refine z_icmp_gt hX dX3_mayTake_19 (tgt := 26) rfl (fun c52 => ?_) (fun c52 => ?_)
        · have hw := hw.1 c52
          refine z_sub (ls' := [some (va_rf (some a0)), some (.int x1), some (.int x2), none, none]) (zsS (zsS (zsS (zsN (zsN (zs0)))))) ?_
          exact hj36  _ hw
        · have hw := hw.2 c52
          refine z_iconst hX (v := (1 : Int32)) dX3_mayTake_22 (by decide) ?_
          refine z_goto hX dX3_mayTake_23 (tgt := 27) rfl ?_
          refine z_sub (ls' := [some (va_rf (some a0)), some (.int x1), some (.int x2), none, none]) (zsS (zsS (zsS (zsN (zsN (zs0)))))) ?_
          exact hj3 _ _ hw
abbrev cX3_outcome : ByteArray := prog_28_method_81_code
def yX3_outcome : MethodName := ⟨RX3, "outcome", "()I"⟩
def dkwX3_outcome_2 : List UInt8 := [46, 184, 1, 4, 46, 96, 172]
abbrev dktX3_outcome_2 : List UInt8 := dkwX3_outcome_2 ++ []
def dkwX3_outcome_1 : List UInt8 := [182, 1, 67, 42, 180, 0, 56, 42, 182, 1, 23, 42, 180, 0, 9, 16, 8, 46, 42, 180, 0, 9, 16, 9]
abbrev dktX3_outcome_1 : List UInt8 := dkwX3_outcome_1 ++ dktX3_outcome_2
def dkwX3_outcome_0 : List UInt8 := [42, 3, 181, 0, 103, 42, 182, 1, 26, 153, 0, 8, 42, 182, 1, 67, 172, 42, 182, 1, 76, 42]
abbrev dktX3_outcome_0 : List UInt8 := dkwX3_outcome_0 ++ dktX3_outcome_1
theorem dksX3_outcome_0 : cX3_outcome.data.toList.drop 0 = dktX3_outcome_0 := by decide +kernel
theorem dksX3_outcome_1 : cX3_outcome.data.toList.drop 22 = dktX3_outcome_1 := dk_seg dksX3_outcome_0 22 rfl rfl
theorem dksX3_outcome_2 : cX3_outcome.data.toList.drop 46 = dktX3_outcome_2 := dk_seg dksX3_outcome_1 24 rfl rfl
theorem dX3_outcome_0 : decode cX3_outcome 0 = .ok (.aload_n 0, 1) := dk_42 (dk_at dksX3_outcome_0 0 rfl rfl)
theorem dX3_outcome_1 : decode cX3_outcome 1 = .ok (.iconst 0, 1) := dk_3 (dk_at dksX3_outcome_0 1 rfl rfl)
theorem dX3_outcome_2 : decode cX3_outcome 2 = .ok (.putfield 103, 3) := dk_181 0 103 (dk_at dksX3_outcome_0 2 rfl rfl)
theorem dX3_outcome_5 : decode cX3_outcome 5 = .ok (.aload_n 0, 1) := dk_42 (dk_at dksX3_outcome_0 5 rfl rfl)
theorem dX3_outcome_6 : decode cX3_outcome 6 = .ok (.invokevirtual 282, 3) := dk_182 1 26 (dk_at dksX3_outcome_0 6 rfl rfl)
theorem dX3_outcome_9 : decode cX3_outcome 9 = .ok (.ifCond .eq 8, 3) := dk_153 0 8 (dk_at dksX3_outcome_0 9 rfl rfl)
theorem dX3_outcome_12 : decode cX3_outcome 12 = .ok (.aload_n 0, 1) := dk_42 (dk_at dksX3_outcome_0 12 rfl rfl)
theorem dX3_outcome_13 : decode cX3_outcome 13 = .ok (.invokevirtual 323, 3) := dk_182 1 67 (dk_at dksX3_outcome_0 13 rfl rfl)
theorem dX3_outcome_16 : decode cX3_outcome 16 = .ok (.ireturn, 1) := dk_172 (dk_at dksX3_outcome_0 16 rfl rfl)
theorem dX3_outcome_17 : decode cX3_outcome 17 = .ok (.aload_n 0, 1) := dk_42 (dk_at dksX3_outcome_0 17 rfl rfl)
theorem dX3_outcome_18 : decode cX3_outcome 18 = .ok (.invokevirtual 332, 3) := dk_182 1 76 (dk_at dksX3_outcome_0 18 rfl rfl)
theorem dX3_outcome_21 : decode cX3_outcome 21 = .ok (.aload_n 0, 1) := dk_42 (dk_at dksX3_outcome_0 21 rfl rfl)
theorem dX3_outcome_22 : decode cX3_outcome 22 = .ok (.invokevirtual 323, 3) := dk_182 1 67 (dk_at dksX3_outcome_1 0 rfl rfl)
theorem dX3_outcome_25 : decode cX3_outcome 25 = .ok (.aload_n 0, 1) := dk_42 (dk_at dksX3_outcome_1 3 rfl rfl)
theorem dX3_outcome_26 : decode cX3_outcome 26 = .ok (.getfield 56, 3) := dk_180 0 56 (dk_at dksX3_outcome_1 4 rfl rfl)
theorem dX3_outcome_29 : decode cX3_outcome 29 = .ok (.aload_n 0, 1) := dk_42 (dk_at dksX3_outcome_1 7 rfl rfl)
theorem dX3_outcome_30 : decode cX3_outcome 30 = .ok (.invokevirtual 279, 3) := dk_182 1 23 (dk_at dksX3_outcome_1 8 rfl rfl)
theorem dX3_outcome_33 : decode cX3_outcome 33 = .ok (.aload_n 0, 1) := dk_42 (dk_at dksX3_outcome_1 11 rfl rfl)
theorem dX3_outcome_34 : decode cX3_outcome 34 = .ok (.getfield 9, 3) := dk_180 0 9 (dk_at dksX3_outcome_1 12 rfl rfl)
theorem dX3_outcome_37 : decode cX3_outcome 37 = .ok (.bipush 8, 2) := dk_16 8 (dk_at dksX3_outcome_1 15 rfl rfl)
theorem dX3_outcome_39 : decode cX3_outcome 39 = .ok (.iaload, 1) := dk_46 (dk_at dksX3_outcome_1 17 rfl rfl)
theorem dX3_outcome_40 : decode cX3_outcome 40 = .ok (.aload_n 0, 1) := dk_42 (dk_at dksX3_outcome_1 18 rfl rfl)
theorem dX3_outcome_41 : decode cX3_outcome 41 = .ok (.getfield 9, 3) := dk_180 0 9 (dk_at dksX3_outcome_1 19 rfl rfl)
theorem dX3_outcome_44 : decode cX3_outcome 44 = .ok (.bipush 9, 2) := dk_16 9 (dk_at dksX3_outcome_1 22 rfl rfl)
theorem dX3_outcome_46 : decode cX3_outcome 46 = .ok (.iaload, 1) := dk_46 (dk_at dksX3_outcome_2 0 rfl rfl)
theorem dX3_outcome_47 : decode cX3_outcome 47 = .ok (.invokestatic 260, 3) := dk_184 1 4 (dk_at dksX3_outcome_2 1 rfl rfl)
theorem dX3_outcome_50 : decode cX3_outcome 50 = .ok (.iaload, 1) := dk_46 (dk_at dksX3_outcome_2 4 rfl rfl)
theorem dX3_outcome_51 : decode cX3_outcome 51 = .ok (.iadd, 1) := dk_96 (dk_at dksX3_outcome_2 5 rfl rfl)
theorem dX3_outcome_52 : decode cX3_outcome 52 = .ok (.ireturn, 1) := dk_172 (dk_at dksX3_outcome_2 6 rfl rfl)
/-- PackingDuelModel.outcome()I -/
def zb224 (G : zPg) (C : zO) (args : List Value) (Q : zQ) (Y : zY) (σ : zS) : Prop := ∃ (a0 : Nat), args = [.ref a0] ∧ (zput σ G.1 (some a0) 4 5 (.int (0 : Int32)) (fun s1 => zrc s1 (some a0) 4 (fun a12 => zcl C 219 [.ref a12] Y s1 (zqI (fun v9 s10 => ((v9 = 0) → zrc s10 (some a0) 4 (fun a20 => zcl C 225 [.ref a20] Y s10 (zqV (fun s18 => zrc s18 (some a0) 4 (fun a27 => zcl C 217 [.ref a27] Y s18 (zqI (fun v24 s25 => zgR s25 (some a0) 4 24 (fun v31 => zrc s25 (some a0) 4 (fun a40 => zcl C 216 [.ref a40] Y s25 (zqI (fun v37 s38 => zgR s38 (some a0) 4 0 (fun v44 => zaI s38 0 v44 (8 : Int32) (fun v56 => zgR s38 (some a0) 4 0 (fun v58 => zaI s38 0 v58 (9 : Int32) (fun v70 => zcl C 226 [.int v37, .int v56, .int v70] Y s38 (zqI (fun v72 s73 => zaI s73 0 v31 v72 (fun v81 => Q (some (.int (v24 + v81))) s73)))))))))))))))))) ∧ ((¬ v9 = 0) → zrc s10 (some a0) 4 (fun a86 => zcl C 217 [.ref a86] Y s10 (zqI (fun v83 s84 => Q (some (.int v83)) s84)))))))))
set_option maxHeartbeats 4000000 in
theorem wk224 {l : Launch} {g : zG} {d : Nat} {C : zO} (hG : zGk g) (hC : zSound l g d C) {args : List Value} {Q : zQ} {Y : zY} {σ : zS} (hw : zb224 (zpg g) C args Q Y σ) : zMet l g (d + 1) (⟨"PackingDuelModel", "outcome", "()I"⟩, Cond.code ⟨"PackingDuelModel", "outcome", "()I"⟩ prog_28_method_81_code 1 (Option.some FieldType.int)) args σ Q Y := by
  obtain ⟨a0, rfl, hw⟩ := hw
  refine zof hG (by decide +kernel) [false] ⟨rfl, trivial⟩ (Nat.le_of_ble_eq_true rfl) (ls := [some (va_rf (some a0))]) rfl ?_
  intro X hX hR hTb hd1 hd2 hl hg hnm
  subst hl
  subst hg
  have hd : zDep X d := ⟨hd1, hd2⟩
  refine z_aload_n hX dX3_outcome_0 rfl (i := 0) rfl ?_
  refine z_iconst hX (v := (0 : Int32)) dX3_outcome_1 (by decide) ?_
  obtain ⟨a3, f4, r5, g6, m7, l8, hw⟩ := hw
  refine z_put hX zc4 (k := 5) dX3_outcome_2 (Nat.le_of_ble_eq_true rfl) (zlk hX q2474) rfl rfl rfl r5 g6 m7 l8 (z_nm (fun s1 e2 => ?_))
  have hw := hw s1 e2
  refine z_aload_n hX dX3_outcome_5 rfl (i := 0) rfl ?_
  obtain ⟨a12, f13, r14, m15, hw⟩ := hw
  refine z_invV hX hd r14 (ci := 4) rfl rfl m15 dX3_outcome_6 (hC 219 _ zm219 _ _ _ _ hw) q2841 q2843 qs83 zh7 q2844 q136 zn219 rfl (Nat.le_of_ble_eq_true rfl) (st := []) rfl (zcs8 (Nat.le_of_ble_eq_true rfl)) rfl (zkI (fun v9 s10 hw => ?_)) (zout hX hR hTb)
  refine z_if_eq hX dX3_outcome_9 (tgt := 17) rfl (fun c16 => ?_) (fun c16 => ?_)
  · have hw := hw.1 c16
    refine z_aload_n hX dX3_outcome_17 rfl (i := 0) rfl ?_
    obtain ⟨a20, f21, r22, m23, hw⟩ := hw
    refine z_invV hX hd r22 (ci := 4) rfl rfl m23 dX3_outcome_18 (hC 225 _ zm225 _ _ _ _ hw) q2865 q2867 qs87 zh7 q2868 q136 zn225 rfl (Nat.le_of_ble_eq_true rfl) (st := []) rfl (zcs8 (Nat.le_of_ble_eq_true rfl)) rfl (zkV (fun s18 hw => ?_)) (zout hX hR hTb)
    refine z_aload_n hX dX3_outcome_21 rfl (i := 0) rfl ?_
    obtain ⟨a27, f28, r29, m30, hw⟩ := hw
    refine z_invV hX hd r29 (ci := 4) rfl rfl m30 dX3_outcome_22 (hC 217 _ zm217 _ _ _ _ hw) q2833 q2835 qs81 zh7 q2836 q136 zn217 rfl (Nat.le_of_ble_eq_true rfl) (st := []) rfl (zcs8 (Nat.le_of_ble_eq_true rfl)) rfl (zkI (fun v24 s25 hw => ?_)) (zout hX hR hTb)
    refine z_aload_n hX dX3_outcome_25 rfl (i := 0) rfl ?_
    obtain ⟨a32, f33, v31, r34, m35, e36, hw⟩ := hw
    refine z_get hX zc4 (k := 24) dX3_outcome_26 (Nat.le_of_ble_eq_true rfl) (zlk hX q2493) r34 m35 e36 ?_
    refine z_aload_n hX dX3_outcome_29 rfl (i := 0) rfl ?_
    obtain ⟨a40, f41, r42, m43, hw⟩ := hw
    refine z_invV hX hd r42 (ci := 4) rfl rfl m43 dX3_outcome_30 (hC 216 _ zm216 _ _ _ _ hw) q2829 q2831 qs80 zh7 q2832 q136 zn216 rfl (Nat.le_of_ble_eq_true rfl) (st := [va_rf v31, .int v24]) rfl (zcs8 (Nat.le_of_ble_eq_true rfl)) rfl (zkI (fun v37 s38 hw => ?_)) (zout hX hR hTb)
    refine z_aload_n hX dX3_outcome_33 rfl (i := 0) rfl ?_
    obtain ⟨a45, f46, v44, r47, m48, e49, hw⟩ := hw
    refine z_get hX zc4 (k := 0) dX3_outcome_34 (Nat.le_of_ble_eq_true rfl) (zlk hX q2469) r47 m48 e49 ?_
    refine z_bipush hX (v := (8 : Int32)) dX3_outcome_37 (by decide) ?_
    obtain ⟨a50, n51, f52, r53, m54, i55, hw⟩ := hw
    refine z_iald hX dX3_outcome_39 r53 m54 i55 ?_
    revert hw
    generalize f52 (Int32.toNatClampNeg (8 : Int32)) = v56
    intro hw
    refine z_aload_n hX dX3_outcome_40 rfl (i := 0) rfl ?_
    obtain ⟨a59, f60, v58, r61, m62, e63, hw⟩ := hw
    refine z_get hX zc4 (k := 0) dX3_outcome_41 (Nat.le_of_ble_eq_true rfl) (zlk hX q2469) r61 m62 e63 ?_
    refine z_bipush hX (v := (9 : Int32)) dX3_outcome_44 (by decide) ?_
    obtain ⟨a64, n65, f66, r67, m68, i69, hw⟩ := hw
    refine z_iald hX dX3_outcome_46 r67 m68 i69 ?_
    revert hw
    generalize f66 (Int32.toNatClampNeg (9 : Int32)) = v70
    intro hw
    refine z_invS hX hd dX3_outcome_47 (hC 226 _ zm226 _ _ _ _ hw) q2869 q2870 zh7 q2871 q136 zn226 rfl (Nat.le_of_ble_eq_true rfl) (st := [va_rf v31, .int v24]) rfl (zcs8 (Nat.le_of_ble_eq_true rfl)) rfl (zkI (fun v72 s73 hw => ?_)) (zout hX hR hTb)
    obtain ⟨a75, n76, f77, r78, m79, i80, hw⟩ := hw
    refine z_iald hX dX3_outcome_50 r78 m79 i80 ?_
    revert hw
    generalize f77 (Int32.toNatClampNeg v72) = v81
    intro hw
    refine z_iadd hX dX3_outcome_51 ?_
    exact z_ireturn hX hR dX3_outcome_52 rfl hw
  · have hw := hw.2 c16
    refine z_aload_n hX dX3_outcome_12 rfl (i := 0) rfl ?_
    obtain ⟨a86, f87, r88, m89, hw⟩ := hw
    refine z_invV hX hd r88 (ci := 4) rfl rfl m89 dX3_outcome_13 (hC 217 _ zm217 _ _ _ _ hw) q2833 q2835 qs81 zh7 q2836 q136 zn217 rfl (Nat.le_of_ble_eq_true rfl) (st := []) rfl (zcs8 (Nat.le_of_ble_eq_true rfl)) rfl (zkI (fun v83 s84 hw => ?_)) (zout hX hR hTb)
    exact z_ireturn hX hR dX3_outcome_16 rfl hw
abbrev cX3_layOutlooks : ByteArray := prog_28_method_55_code
def yX3_layOutlooks : MethodName := ⟨RX3, "layOutlooks", "()V"⟩
def dkwX3_layOutlooks_2 : List UInt8 := [132, 3, 1, 167, 255, 230, 132, 2, 255, 167, 255, 218, 132, 1, 255, 167, 255, 206, 177]
abbrev dktX3_layOutlooks_2 : List UInt8 := dkwX3_layOutlooks_2 ++ []
def dkwX3_layOutlooks_1 : List UInt8 := [62, 29, 5, 162, 0, 27, 42, 180, 0, 56, 27, 29, 28, 184, 1, 4, 42, 27, 29, 28, 182, 1, 20, 79]
abbrev dktX3_layOutlooks_1 : List UInt8 := dkwX3_layOutlooks_1 ++ dktX3_layOutlooks_2
def dkwX3_layOutlooks_0 : List UInt8 := [42, 182, 0, 133, 4, 42, 182, 0, 106, 120, 4, 100, 60, 27, 155, 0, 52, 4, 61, 28, 155, 0, 40, 3]
abbrev dktX3_layOutlooks_0 : List UInt8 := dkwX3_layOutlooks_0 ++ dktX3_layOutlooks_1
theorem dksX3_layOutlooks_0 : cX3_layOutlooks.data.toList.drop 0 = dktX3_layOutlooks_0 := by decide +kernel
theorem dksX3_layOutlooks_1 : cX3_layOutlooks.data.toList.drop 24 = dktX3_layOutlooks_1 := dk_seg dksX3_layOutlooks_0 24 rfl rfl
theorem dksX3_layOutlooks_2 : cX3_layOutlooks.data.toList.drop 48 = dktX3_layOutlooks_2 := dk_seg dksX3_layOutlooks_1 24 rfl rfl
theorem dX3_layOutlooks_0 : decode cX3_layOutlooks 0 = .ok (.aload_n 0, 1) := dk_42 (dk_at dksX3_layOutlooks_0 0 rfl rfl)
theorem dX3_layOutlooks_1 : decode cX3_layOutlooks 1 = .ok (.invokevirtual 133, 3) := dk_182 0 133 (dk_at dksX3_layOutlooks_0 1 rfl rfl)
theorem dX3_layOutlooks_4 : decode cX3_layOutlooks 4 = .ok (.iconst 1, 1) := dk_4 (dk_at dksX3_layOutlooks_0 4 rfl rfl)
theorem dX3_layOutlooks_5 : decode cX3_layOutlooks 5 = .ok (.aload_n 0, 1) := dk_42 (dk_at dksX3_layOutlooks_0 5 rfl rfl)
theorem dX3_layOutlooks_6 : decode cX3_layOutlooks 6 = .ok (.invokevirtual 106, 3) := dk_182 0 106 (dk_at dksX3_layOutlooks_0 6 rfl rfl)
theorem dX3_layOutlooks_9 : decode cX3_layOutlooks 9 = .ok (.ishl, 1) := dk_120 (dk_at dksX3_layOutlooks_0 9 rfl rfl)
theorem dX3_layOutlooks_10 : decode cX3_layOutlooks 10 = .ok (.iconst 1, 1) := dk_4 (dk_at dksX3_layOutlooks_0 10 rfl rfl)
theorem dX3_layOutlooks_11 : decode cX3_layOutlooks 11 = .ok (.isub, 1) := dk_100 (dk_at dksX3_layOutlooks_0 11 rfl rfl)
theorem dX3_layOutlooks_12 : decode cX3_layOutlooks 12 = .ok (.istore_n 1, 1) := dk_60 (dk_at dksX3_layOutlooks_0 12 rfl rfl)
theorem dX3_layOutlooks_13 : decode cX3_layOutlooks 13 = .ok (.iload_n 1, 1) := dk_27 (dk_at dksX3_layOutlooks_0 13 rfl rfl)
theorem dX3_layOutlooks_14 : decode cX3_layOutlooks 14 = .ok (.ifCond .lt 52, 3) := dk_155 0 52 (dk_at dksX3_layOutlooks_0 14 rfl rfl)
theorem dX3_layOutlooks_17 : decode cX3_layOutlooks 17 = .ok (.iconst 1, 1) := dk_4 (dk_at dksX3_layOutlooks_0 17 rfl rfl)
theorem dX3_layOutlooks_18 : decode cX3_layOutlooks 18 = .ok (.istore_n 2, 1) := dk_61 (dk_at dksX3_layOutlooks_0 18 rfl rfl)
theorem dX3_layOutlooks_19 : decode cX3_layOutlooks 19 = .ok (.iload_n 2, 1) := dk_28 (dk_at dksX3_layOutlooks_0 19 rfl rfl)
theorem dX3_layOutlooks_20 : decode cX3_layOutlooks 20 = .ok (.ifCond .lt 40, 3) := dk_155 0 40 (dk_at dksX3_layOutlooks_0 20 rfl rfl)
theorem dX3_layOutlooks_23 : decode cX3_layOutlooks 23 = .ok (.iconst 0, 1) := dk_3 (dk_at dksX3_layOutlooks_0 23 rfl rfl)
theorem dX3_layOutlooks_24 : decode cX3_layOutlooks 24 = .ok (.istore_n 3, 1) := dk_62 (dk_at dksX3_layOutlooks_1 0 rfl rfl)
theorem dX3_layOutlooks_25 : decode cX3_layOutlooks 25 = .ok (.iload_n 3, 1) := dk_29 (dk_at dksX3_layOutlooks_1 1 rfl rfl)
theorem dX3_layOutlooks_26 : decode cX3_layOutlooks 26 = .ok (.iconst 2, 1) := dk_5 (dk_at dksX3_layOutlooks_1 2 rfl rfl)
theorem dX3_layOutlooks_27 : decode cX3_layOutlooks 27 = .ok (.if_icmp .ge 27, 3) := dk_162 0 27 (dk_at dksX3_layOutlooks_1 3 rfl rfl)
theorem dX3_layOutlooks_30 : decode cX3_layOutlooks 30 = .ok (.aload_n 0, 1) := dk_42 (dk_at dksX3_layOutlooks_1 6 rfl rfl)
theorem dX3_layOutlooks_31 : decode cX3_layOutlooks 31 = .ok (.getfield 56, 3) := dk_180 0 56 (dk_at dksX3_layOutlooks_1 7 rfl rfl)
theorem dX3_layOutlooks_34 : decode cX3_layOutlooks 34 = .ok (.iload_n 1, 1) := dk_27 (dk_at dksX3_layOutlooks_1 10 rfl rfl)
theorem dX3_layOutlooks_35 : decode cX3_layOutlooks 35 = .ok (.iload_n 3, 1) := dk_29 (dk_at dksX3_layOutlooks_1 11 rfl rfl)
theorem dX3_layOutlooks_36 : decode cX3_layOutlooks 36 = .ok (.iload_n 2, 1) := dk_28 (dk_at dksX3_layOutlooks_1 12 rfl rfl)
theorem dX3_layOutlooks_37 : decode cX3_layOutlooks 37 = .ok (.invokestatic 260, 3) := dk_184 1 4 (dk_at dksX3_layOutlooks_1 13 rfl rfl)
theorem dX3_layOutlooks_40 : decode cX3_layOutlooks 40 = .ok (.aload_n 0, 1) := dk_42 (dk_at dksX3_layOutlooks_1 16 rfl rfl)
theorem dX3_layOutlooks_41 : decode cX3_layOutlooks 41 = .ok (.iload_n 1, 1) := dk_27 (dk_at dksX3_layOutlooks_1 17 rfl rfl)
theorem dX3_layOutlooks_42 : decode cX3_layOutlooks 42 = .ok (.iload_n 3, 1) := dk_29 (dk_at dksX3_layOutlooks_1 18 rfl rfl)
theorem dX3_layOutlooks_43 : decode cX3_layOutlooks 43 = .ok (.iload_n 2, 1) := dk_28 (dk_at dksX3_layOutlooks_1 19 rfl rfl)
theorem dX3_layOutlooks_44 : decode cX3_layOutlooks 44 = .ok (.invokevirtual 276, 3) := dk_182 1 20 (dk_at dksX3_layOutlooks_1 20 rfl rfl)
theorem dX3_layOutlooks_47 : decode cX3_layOutlooks 47 = .ok (.iastore, 1) := dk_79 (dk_at dksX3_layOutlooks_1 23 rfl rfl)
theorem dX3_layOutlooks_48 : decode cX3_layOutlooks 48 = .ok (.iinc 3 1, 3) := dk_132 3 1 (dk_at dksX3_layOutlooks_2 0 rfl rfl)
theorem dX3_layOutlooks_51 : decode cX3_layOutlooks 51 = .ok (.goto (-26), 3) := dk_167 255 230 (dk_at dksX3_layOutlooks_2 3 rfl rfl)
theorem dX3_layOutlooks_54 : decode cX3_layOutlooks 54 = .ok (.iinc 2 (-1), 3) := dk_132 2 255 (dk_at dksX3_layOutlooks_2 6 rfl rfl)
theorem dX3_layOutlooks_57 : decode cX3_layOutlooks 57 = .ok (.goto (-38), 3) := dk_167 255 218 (dk_at dksX3_layOutlooks_2 9 rfl rfl)
theorem dX3_layOutlooks_60 : decode cX3_layOutlooks 60 = .ok (.iinc 1 (-1), 3) := dk_132 1 255 (dk_at dksX3_layOutlooks_2 12 rfl rfl)
theorem dX3_layOutlooks_63 : decode cX3_layOutlooks 63 = .ok (.goto (-50), 3) := dk_167 255 206 (dk_at dksX3_layOutlooks_2 15 rfl rfl)
theorem dX3_layOutlooks_66 : decode cX3_layOutlooks 66 = .ok (.return_, 1) := dk_177 (dk_at dksX3_layOutlooks_2 18 rfl rfl)
/-- PackingDuelModel.layOutlooks()V -/
def zb225 (G : zPg) (C : zO) (args : List Value) (Q : zQ) (Y : zY) (σ : zS) : Prop := ∃ (a0 : Nat), args = [.ref a0] ∧ (zrc σ (some a0) 4 (fun a4 => zcl C 172 [.ref a4] Y σ (zqV (fun s2 => zrc s2 (some a0) 4 (fun a11 => zcl C 159 [.ref a11] Y s2 (zqI (fun v8 s9 => (∀ v15 : Int32, v15 = (((1 : Int32) <<< (v8 &&& 31)) - (1 : Int32)) → ∃ n, zIt (fun _ _ => False) (fun rec19 (p17 : Int32) (s18 : zS) => ((p17 < 0) → Q none s18) ∧ ((¬ p17 < 0) → ∃ n, zIt (fun _ _ => False) (fun rec23 (p21 : Int32) (s22 : zS) => ((p21 < 0) → (∀ v25 : Int32, v25 = p17 + (-1 : Int32) → rec19 v25 s22)) ∧ ((¬ p21 < 0) → ∃ n, zIt (fun _ _ => False) (fun rec29 (p27 : Int32) (s28 : zS) => (((2 : Int32) ≤ p27) → (∀ v31 : Int32, v31 = p21 + (-1 : Int32) → rec23 v31 s28)) ∧ ((¬ (2 : Int32) ≤ p27) → zgR s28 (some a0) 4 24 (fun v33 => zcl C 226 [.int p17, .int p27, .int p21] Y s28 (zqI (fun v39 s40 => zrc s40 (some a0) 4 (fun a45 => zcl C 227 [.ref a45, .int p17, .int p27, .int p21] Y s40 (zqI (fun v42 s43 => zsI s43 G.1 0 v33 v39 v42 (fun s56 => (∀ v58 : Int32, v58 = p27 + (1 : Int32) → rec29 v58 s56)))))))))) n (0 : Int32) s22)) n (1 : Int32) s18)) n v15 s9))))))))
set_option maxHeartbeats 4000000 in
theorem wk225 {l : Launch} {g : zG} {d : Nat} {C : zO} (hG : zGk g) (hC : zSound l g d C) {args : List Value} {Q : zQ} {Y : zY} {σ : zS} (hw : zb225 (zpg g) C args Q Y σ) : zMet l g (d + 1) (⟨"PackingDuelModel", "layOutlooks", "()V"⟩, Cond.code ⟨"PackingDuelModel", "layOutlooks", "()V"⟩ prog_28_method_55_code 4 (Option.none : Option FieldType)) args σ Q Y := by
  obtain ⟨a0, rfl, hw⟩ := hw
  refine zof hG (by decide +kernel) [false] ⟨rfl, trivial⟩ (Nat.le_of_ble_eq_true rfl) (ls := [some (va_rf (some a0)), none, none, none]) rfl ?_
  intro X hX hR hTb hd1 hd2 hl hg hnm
  subst hl
  subst hg
  have hd : zDep X d := ⟨hd1, hd2⟩
  refine z_aload_n hX dX3_layOutlooks_0 rfl (i := 0) rfl ?_
  obtain ⟨a4, f5, r6, m7, hw⟩ := hw
  refine z_invV hX hd r6 (ci := 4) rfl rfl m7 dX3_layOutlooks_1 (hC 172 _ zm172 _ _ _ _ hw) q2655 q2657 qs54 zh7 q2658 q136 zn172 rfl (Nat.le_of_ble_eq_true rfl) (st := []) rfl (zcs8 (Nat.le_of_ble_eq_true rfl)) rfl (zkV (fun s2 hw => ?_)) (zout hX hR hTb)
  refine z_iconst hX (v := (1 : Int32)) dX3_layOutlooks_4 (by decide) ?_
  refine z_aload_n hX dX3_layOutlooks_5 rfl (i := 0) rfl ?_
  obtain ⟨a11, f12, r13, m14, hw⟩ := hw
  refine z_invV hX hd r13 (ci := 4) rfl rfl m14 dX3_layOutlooks_6 (hC 159 _ zm159 _ _ _ _ hw) q2605 q2607 qs46 zh7 q2608 q136 zn159 rfl (Nat.le_of_ble_eq_true rfl) (st := [.int (1 : Int32)]) rfl (zcs8 (Nat.le_of_ble_eq_true rfl)) rfl (zkI (fun v8 s9 hw => ?_)) (zout hX hR hTb)
  refine z_ishl hX dX3_layOutlooks_9 ?_
  refine z_iconst hX (v := (1 : Int32)) dX3_layOutlooks_10 (by decide) ?_
  refine z_isub hX dX3_layOutlooks_11 ?_
  refine z_topi (fun v15 e16 => ?_)
  have hw := hw v15 e16
  refine z_istore_n hX dX3_layOutlooks_12 rfl (i := 1) (Nat.le_of_ble_eq_true rfl) (zc_rf _) (ls2 := [some (va_rf (some a0)), some (.int v15), none, none]) rfl ?_
  obtain ⟨n62, hw⟩ := hw
  refine zIt_w (P := fun (j : Int32 → zS → Prop) => ∀ (p17 : Int32) (s18 : zS), j p17 s18 → zW X s18 13 [some (va_rf (some a0)), some (.int p17), none, none] []) (fun _ _ h => h.elim) (fun rec19 hrec19 p17 s18 hw => ?_) n62 _ _ hw
  refine z_iload_n hX dX3_layOutlooks_13 rfl (i := 1) rfl ?_
  refine z_if_lt hX dX3_layOutlooks_14 (tgt := 66) rfl (fun c20 => ?_) (fun c20 => ?_)
  · have hw := hw.1 c20
    exact z_return hX hR dX3_layOutlooks_66 hw
  · have hw := hw.2 c20
    refine z_iconst hX (v := (1 : Int32)) dX3_layOutlooks_17 (by decide) ?_
    refine z_istore_n hX dX3_layOutlooks_18 rfl (i := 2) (Nat.le_of_ble_eq_true rfl) rfl (ls2 := [some (va_rf (some a0)), some (.int p17), some (.int (1 : Int32)), none]) rfl ?_
    obtain ⟨n61, hw⟩ := hw
    refine zIt_w (P := fun (j : Int32 → zS → Prop) => ∀ (p21 : Int32) (s22 : zS), j p21 s22 → zW X s22 19 [some (va_rf (some a0)), some (.int p17), some (.int p21), none] []) (fun _ _ h => h.elim) (fun rec23 hrec23 p21 s22 hw => ?_) n61 _ _ hw
    refine z_iload_n hX dX3_layOutlooks_19 rfl (i := 2) rfl ?_
    refine z_if_lt hX dX3_layOutlooks_20 (tgt := 60) rfl (fun c24 => ?_) (fun c24 => ?_)
    · have hw := hw.1 c24
      obtain ⟨v25, e26⟩ : ∃ y : Int32, y = p17 + (-1 : Int32) := ⟨_, rfl⟩
      refine z_iinc hX dX3_layOutlooks_60 (i := 1) (v := v25) rfl (by rw [e26]; rfl) (Nat.le_of_ble_eq_true rfl) (zc_rf _) (ls2 := [some (va_rf (some a0)), some (.int v25), some (.int p21), none]) rfl ?_
      have hw := hw v25 e26
      refine z_goto hX dX3_layOutlooks_63 (tgt := 13) rfl ?_
      refine z_sub (ls' := [some (va_rf (some a0)), some (.int v25), none, none]) (zsS (zsS (zsN (zsN (zs0))))) ?_
      exact hrec19 _ _ hw
    · have hw := hw.2 c24
      refine z_iconst hX (v := (0 : Int32)) dX3_layOutlooks_23 (by decide) ?_
      refine z_istore_n hX dX3_layOutlooks_24 rfl (i := 3) (Nat.le_of_ble_eq_true rfl) rfl (ls2 := [some (va_rf (some a0)), some (.int p17), some (.int p21), some (.int (0 : Int32))]) rfl ?_
      obtain ⟨n60, hw⟩ := hw
      refine zIt_w (P := fun (j : Int32 → zS → Prop) => ∀ (p27 : Int32) (s28 : zS), j p27 s28 → zW X s28 25 [some (va_rf (some a0)), some (.int p17), some (.int p21), some (.int p27)] []) (fun _ _ h => h.elim) (fun rec29 hrec29 p27 s28 hw => ?_) n60 _ _ hw
      refine z_iload_n hX dX3_layOutlooks_25 rfl (i := 3) rfl ?_
      refine z_iconst hX (v := (2 : Int32)) dX3_layOutlooks_26 (by decide) ?_
      refine z_icmp_ge hX dX3_layOutlooks_27 (tgt := 54) rfl (fun c30 => ?_) (fun c30 => ?_)
      · have hw := hw.1 c30
        obtain ⟨v31, e32⟩ : ∃ y : Int32, y = p21 + (-1 : Int32) := ⟨_, rfl⟩
        refine z_iinc hX dX3_layOutlooks_54 (i := 2) (v := v31) rfl (by rw [e32]; rfl) (Nat.le_of_ble_eq_true rfl) rfl (ls2 := [some (va_rf (some a0)), some (.int p17), some (.int v31), some (.int p27)]) rfl ?_
        have hw := hw v31 e32
        refine z_goto hX dX3_layOutlooks_57 (tgt := 19) rfl ?_
        refine z_sub (ls' := [some (va_rf (some a0)), some (.int p17), some (.int v31), none]) (zsS (zsS (zsS (zsN (zs0))))) ?_
        exact hrec23 _ _ hw
      · have hw := hw.2 c30
        refine z_aload_n hX dX3_layOutlooks_30 rfl (i := 0) rfl ?_
        obtain ⟨a34, f35, v33, r36, m37, e38, hw⟩ := hw
        refine z_get hX zc4 (k := 24) dX3_layOutlooks_31 (Nat.le_of_ble_eq_true rfl) (zlk hX q2493) r36 m37 e38 ?_
        refine z_iload_n hX dX3_layOutlooks_34 rfl (i := 1) rfl ?_
        refine z_iload_n hX dX3_layOutlooks_35 rfl (i := 3) rfl ?_
        refine z_iload_n hX dX3_layOutlooks_36 rfl (i := 2) rfl ?_
        refine z_invS hX hd dX3_layOutlooks_37 (hC 226 _ zm226 _ _ _ _ hw) q2869 q2870 zh7 q2871 q136 zn226 rfl (Nat.le_of_ble_eq_true rfl) (st := [va_rf v33]) rfl (zcs8 (Nat.le_of_ble_eq_true rfl)) rfl (zkI (fun v39 s40 hw => ?_)) (zout hX hR hTb)
        refine z_aload_n hX dX3_layOutlooks_40 rfl (i := 0) rfl ?_
        refine z_iload_n hX dX3_layOutlooks_41 rfl (i := 1) rfl ?_
        refine z_iload_n hX dX3_layOutlooks_42 rfl (i := 3) rfl ?_
        refine z_iload_n hX dX3_layOutlooks_43 rfl (i := 2) rfl ?_
        obtain ⟨a45, f46, r47, m48, hw⟩ := hw
        refine z_invV hX hd r47 (ci := 4) rfl rfl m48 dX3_layOutlooks_44 (hC 227 _ zm227 _ _ _ _ hw) q2872 q2874 qs88 zh7 q2875 q136 zn227 rfl (Nat.le_of_ble_eq_true rfl) (st := [.int v39, va_rf v33]) rfl (zcs8 (Nat.le_of_ble_eq_true rfl)) rfl (zkI (fun v42 s43 hw => ?_)) (zout hX hR hTb)
        obtain ⟨a49, n50, f51, r52, g53, m54, i55, hw⟩ := hw
        refine z_iast hX dX3_layOutlooks_47 r52 g53 m54 i55 (z_nm (fun s56 e57 => ?_))
        have hw := hw s56 e57
        obtain ⟨v58, e59⟩ : ∃ y : Int32, y = p27 + (1 : Int32) := ⟨_, rfl⟩
        refine z_iinc hX dX3_layOutlooks_48 (i := 3) (v := v58) rfl (by rw [e59]; rfl) (Nat.le_of_ble_eq_true rfl) rfl (ls2 := [some (va_rf (some a0)), some (.int p17), some (.int p21), some (.int v58)]) rfl ?_
        have hw := hw v58 e59
        refine z_goto hX dX3_layOutlooks_51 (tgt := 25) rfl ?_
        exact hrec29 _ _ hw
abbrev cX3_outlookAt : ByteArray := prog_28_method_48_code
def yX3_outlookAt : MethodName := ⟨RX3, "outlookAt", "(III)I"⟩
def dkwX3_outlookAt_0 : List UInt8 := [7, 26, 104, 5, 27, 104, 96, 28, 96, 172]
abbrev dktX3_outlookAt_0 : List UInt8 := dkwX3_outlookAt_0 ++ []
theorem dksX3_outlookAt_0 : cX3_outlookAt.data.toList.drop 0 = dktX3_outlookAt_0 := by decide +kernel
theorem dX3_outlookAt_0 : decode cX3_outlookAt 0 = .ok (.iconst 4, 1) := dk_7 (dk_at dksX3_outlookAt_0 0 rfl rfl)
theorem dX3_outlookAt_1 : decode cX3_outlookAt 1 = .ok (.iload_n 0, 1) := dk_26 (dk_at dksX3_outlookAt_0 1 rfl rfl)
theorem dX3_outlookAt_2 : decode cX3_outlookAt 2 = .ok (.imul, 1) := dk_104 (dk_at dksX3_outlookAt_0 2 rfl rfl)
theorem dX3_outlookAt_3 : decode cX3_outlookAt 3 = .ok (.iconst 2, 1) := dk_5 (dk_at dksX3_outlookAt_0 3 rfl rfl)
theorem dX3_outlookAt_4 : decode cX3_outlookAt 4 = .ok (.iload_n 1, 1) := dk_27 (dk_at dksX3_outlookAt_0 4 rfl rfl)
theorem dX3_outlookAt_5 : decode cX3_outlookAt 5 = .ok (.imul, 1) := dk_104 (dk_at dksX3_outlookAt_0 5 rfl rfl)
theorem dX3_outlookAt_6 : decode cX3_outlookAt 6 = .ok (.iadd, 1) := dk_96 (dk_at dksX3_outlookAt_0 6 rfl rfl)
theorem dX3_outlookAt_7 : decode cX3_outlookAt 7 = .ok (.iload_n 2, 1) := dk_28 (dk_at dksX3_outlookAt_0 7 rfl rfl)
theorem dX3_outlookAt_8 : decode cX3_outlookAt 8 = .ok (.iadd, 1) := dk_96 (dk_at dksX3_outlookAt_0 8 rfl rfl)
theorem dX3_outlookAt_9 : decode cX3_outlookAt 9 = .ok (.ireturn, 1) := dk_172 (dk_at dksX3_outlookAt_0 9 rfl rfl)
/-- PackingDuelModel.outlookAt(III)I -/
def zb226 (G : zPg) (C : zO) (args : List Value) (Q : zQ) (Y : zY) (σ : zS) : Prop := ∃ (x1 : Int32) (x2 : Int32) (x3 : Int32), args = [.int x1, .int x2, .int x3] ∧ ((∀ v1 : Int32, v1 = ((((4 : Int32) * x1) + ((2 : Int32) * x2)) + x3) → Q (some (.int v1)) σ))
set_option maxHeartbeats 4000000 in
theorem wk226 {l : Launch} {g : zG} {d : Nat} {C : zO} (hG : zGk g) (hC : zSound l g d C) {args : List Value} {Q : zQ} {Y : zY} {σ : zS} (hw : zb226 (zpg g) C args Q Y σ) : zMet l g (d + 1) (⟨"PackingDuelModel", "outlookAt", "(III)I"⟩, Cond.code ⟨"PackingDuelModel", "outlookAt", "(III)I"⟩ prog_28_method_48_code 3 (Option.some FieldType.int)) args σ Q Y := by
  obtain ⟨x1, x2, x3, rfl, hw⟩ := hw
  refine zof hG (by decide +kernel) [false, false, false] ⟨rfl, rfl, rfl, trivial⟩ (Nat.le_of_ble_eq_true rfl) (ls := [some (.int x1), some (.int x2), some (.int x3)]) rfl ?_
  intro X hX hR hTb hd1 hd2 hl hg hnm
  subst hl
  subst hg
  have hd : zDep X d := ⟨hd1, hd2⟩
  refine z_iconst hX (v := (4 : Int32)) dX3_outlookAt_0 (by decide) ?_
  refine z_iload_n hX dX3_outlookAt_1 rfl (i := 0) rfl ?_
  refine z_imul hX dX3_outlookAt_2 ?_
  refine z_iconst hX (v := (2 : Int32)) dX3_outlookAt_3 (by decide) ?_
  refine z_iload_n hX dX3_outlookAt_4 rfl (i := 1) rfl ?_
  refine z_imul hX dX3_outlookAt_5 ?_
  refine z_iadd hX dX3_outlookAt_6 ?_
  refine z_iload_n hX dX3_outlookAt_7 rfl (i := 2) rfl ?_
  refine z_iadd hX dX3_outlookAt_8 ?_
  refine z_topi (fun v1 e2 => ?_)
  have hw := hw v1 e2
  exact z_ireturn hX hR dX3_outlookAt_9 rfl hw
abbrev cX3_outlookOf : ByteArray := prog_28_method_54_code
def yX3_outlookOf : MethodName := ⟨RX3, "outlookOf", "(III)I"⟩
def dkwX3_outlookOf_3 : List UInt8 := [21, 4, 54, 4, 132, 5, 1, 167, 255, 201, 21, 4, 172]
abbrev dktX3_outlookOf_3 : List UInt8 := dkwX3_outlookOf_3 ++ []
def dkwX3_outlookOf_2 : List UInt8 := [21, 5, 182, 1, 10, 54, 6, 42, 28, 21, 6, 21, 4, 182, 1, 17, 153, 0, 8, 21, 6, 167, 0, 5]
abbrev dktX3_outlookOf_2 : List UInt8 := dkwX3_outlookOf_2 ++ dktX3_outlookOf_3
def dkwX3_outlookOf_1 : List UInt8 := [21, 5, 42, 182, 0, 106, 162, 0, 52, 42, 27, 28, 21, 5, 182, 1, 14, 153, 0, 35, 42, 27, 28, 29]
abbrev dktX3_outlookOf_1 : List UInt8 := dkwX3_outlookOf_1 ++ dktX3_outlookOf_2
def dkwX3_outlookOf_0 : List UInt8 := [42, 27, 182, 1, 7, 154, 0, 5, 3, 172, 42, 27, 28, 29, 2, 182, 1, 10, 54, 4, 3, 54, 5]
abbrev dktX3_outlookOf_0 : List UInt8 := dkwX3_outlookOf_0 ++ dktX3_outlookOf_1
theorem dksX3_outlookOf_0 : cX3_outlookOf.data.toList.drop 0 = dktX3_outlookOf_0 := by decide +kernel
theorem dksX3_outlookOf_1 : cX3_outlookOf.data.toList.drop 23 = dktX3_outlookOf_1 := dk_seg dksX3_outlookOf_0 23 rfl rfl
theorem dksX3_outlookOf_2 : cX3_outlookOf.data.toList.drop 47 = dktX3_outlookOf_2 := dk_seg dksX3_outlookOf_1 24 rfl rfl
theorem dksX3_outlookOf_3 : cX3_outlookOf.data.toList.drop 71 = dktX3_outlookOf_3 := dk_seg dksX3_outlookOf_2 24 rfl rfl
theorem dX3_outlookOf_0 : decode cX3_outlookOf 0 = .ok (.aload_n 0, 1) := dk_42 (dk_at dksX3_outlookOf_0 0 rfl rfl)
theorem dX3_outlookOf_1 : decode cX3_outlookOf 1 = .ok (.iload_n 1, 1) := dk_27 (dk_at dksX3_outlookOf_0 1 rfl rfl)
theorem dX3_outlookOf_2 : decode cX3_outlookOf 2 = .ok (.invokevirtual 263, 3) := dk_182 1 7 (dk_at dksX3_outlookOf_0 2 rfl rfl)
theorem dX3_outlookOf_5 : decode cX3_outlookOf 5 = .ok (.ifCond .ne 5, 3) := dk_154 0 5 (dk_at dksX3_outlookOf_0 5 rfl rfl)
theorem dX3_outlookOf_8 : decode cX3_outlookOf 8 = .ok (.iconst 0, 1) := dk_3 (dk_at dksX3_outlookOf_0 8 rfl rfl)
theorem dX3_outlookOf_9 : decode cX3_outlookOf 9 = .ok (.ireturn, 1) := dk_172 (dk_at dksX3_outlookOf_0 9 rfl rfl)
theorem dX3_outlookOf_10 : decode cX3_outlookOf 10 = .ok (.aload_n 0, 1) := dk_42 (dk_at dksX3_outlookOf_0 10 rfl rfl)
theorem dX3_outlookOf_11 : decode cX3_outlookOf 11 = .ok (.iload_n 1, 1) := dk_27 (dk_at dksX3_outlookOf_0 11 rfl rfl)
theorem dX3_outlookOf_12 : decode cX3_outlookOf 12 = .ok (.iload_n 2, 1) := dk_28 (dk_at dksX3_outlookOf_0 12 rfl rfl)
theorem dX3_outlookOf_13 : decode cX3_outlookOf 13 = .ok (.iload_n 3, 1) := dk_29 (dk_at dksX3_outlookOf_0 13 rfl rfl)
theorem dX3_outlookOf_14 : decode cX3_outlookOf 14 = .ok (.iconst (-1), 1) := dk_2 (dk_at dksX3_outlookOf_0 14 rfl rfl)
theorem dX3_outlookOf_15 : decode cX3_outlookOf 15 = .ok (.invokevirtual 266, 3) := dk_182 1 10 (dk_at dksX3_outlookOf_0 15 rfl rfl)
theorem dX3_outlookOf_18 : decode cX3_outlookOf 18 = .ok (.istore 4, 2) := dk_54 4 (dk_at dksX3_outlookOf_0 18 rfl rfl)
theorem dX3_outlookOf_20 : decode cX3_outlookOf 20 = .ok (.iconst 0, 1) := dk_3 (dk_at dksX3_outlookOf_0 20 rfl rfl)
theorem dX3_outlookOf_21 : decode cX3_outlookOf 21 = .ok (.istore 5, 2) := dk_54 5 (dk_at dksX3_outlookOf_0 21 rfl rfl)
theorem dX3_outlookOf_23 : decode cX3_outlookOf 23 = .ok (.iload 5, 2) := dk_21 5 (dk_at dksX3_outlookOf_1 0 rfl rfl)
theorem dX3_outlookOf_25 : decode cX3_outlookOf 25 = .ok (.aload_n 0, 1) := dk_42 (dk_at dksX3_outlookOf_1 2 rfl rfl)
theorem dX3_outlookOf_26 : decode cX3_outlookOf 26 = .ok (.invokevirtual 106, 3) := dk_182 0 106 (dk_at dksX3_outlookOf_1 3 rfl rfl)
theorem dX3_outlookOf_29 : decode cX3_outlookOf 29 = .ok (.if_icmp .ge 52, 3) := dk_162 0 52 (dk_at dksX3_outlookOf_1 6 rfl rfl)
theorem dX3_outlookOf_32 : decode cX3_outlookOf 32 = .ok (.aload_n 0, 1) := dk_42 (dk_at dksX3_outlookOf_1 9 rfl rfl)
theorem dX3_outlookOf_33 : decode cX3_outlookOf 33 = .ok (.iload_n 1, 1) := dk_27 (dk_at dksX3_outlookOf_1 10 rfl rfl)
theorem dX3_outlookOf_34 : decode cX3_outlookOf 34 = .ok (.iload_n 2, 1) := dk_28 (dk_at dksX3_outlookOf_1 11 rfl rfl)
theorem dX3_outlookOf_35 : decode cX3_outlookOf 35 = .ok (.iload 5, 2) := dk_21 5 (dk_at dksX3_outlookOf_1 12 rfl rfl)
theorem dX3_outlookOf_37 : decode cX3_outlookOf 37 = .ok (.invokevirtual 270, 3) := dk_182 1 14 (dk_at dksX3_outlookOf_1 14 rfl rfl)
theorem dX3_outlookOf_40 : decode cX3_outlookOf 40 = .ok (.ifCond .eq 35, 3) := dk_153 0 35 (dk_at dksX3_outlookOf_1 17 rfl rfl)
theorem dX3_outlookOf_43 : decode cX3_outlookOf 43 = .ok (.aload_n 0, 1) := dk_42 (dk_at dksX3_outlookOf_1 20 rfl rfl)
theorem dX3_outlookOf_44 : decode cX3_outlookOf 44 = .ok (.iload_n 1, 1) := dk_27 (dk_at dksX3_outlookOf_1 21 rfl rfl)
theorem dX3_outlookOf_45 : decode cX3_outlookOf 45 = .ok (.iload_n 2, 1) := dk_28 (dk_at dksX3_outlookOf_1 22 rfl rfl)
theorem dX3_outlookOf_46 : decode cX3_outlookOf 46 = .ok (.iload_n 3, 1) := dk_29 (dk_at dksX3_outlookOf_1 23 rfl rfl)
theorem dX3_outlookOf_47 : decode cX3_outlookOf 47 = .ok (.iload 5, 2) := dk_21 5 (dk_at dksX3_outlookOf_2 0 rfl rfl)
theorem dX3_outlookOf_49 : decode cX3_outlookOf 49 = .ok (.invokevirtual 266, 3) := dk_182 1 10 (dk_at dksX3_outlookOf_2 2 rfl rfl)
theorem dX3_outlookOf_52 : decode cX3_outlookOf 52 = .ok (.istore 6, 2) := dk_54 6 (dk_at dksX3_outlookOf_2 5 rfl rfl)
theorem dX3_outlookOf_54 : decode cX3_outlookOf 54 = .ok (.aload_n 0, 1) := dk_42 (dk_at dksX3_outlookOf_2 7 rfl rfl)
theorem dX3_outlookOf_55 : decode cX3_outlookOf 55 = .ok (.iload_n 2, 1) := dk_28 (dk_at dksX3_outlookOf_2 8 rfl rfl)
theorem dX3_outlookOf_56 : decode cX3_outlookOf 56 = .ok (.iload 6, 2) := dk_21 6 (dk_at dksX3_outlookOf_2 9 rfl rfl)
theorem dX3_outlookOf_58 : decode cX3_outlookOf 58 = .ok (.iload 4, 2) := dk_21 4 (dk_at dksX3_outlookOf_2 11 rfl rfl)
theorem dX3_outlookOf_60 : decode cX3_outlookOf 60 = .ok (.invokevirtual 273, 3) := dk_182 1 17 (dk_at dksX3_outlookOf_2 13 rfl rfl)
theorem dX3_outlookOf_63 : decode cX3_outlookOf 63 = .ok (.ifCond .eq 8, 3) := dk_153 0 8 (dk_at dksX3_outlookOf_2 16 rfl rfl)
theorem dX3_outlookOf_66 : decode cX3_outlookOf 66 = .ok (.iload 6, 2) := dk_21 6 (dk_at dksX3_outlookOf_2 19 rfl rfl)
theorem dX3_outlookOf_68 : decode cX3_outlookOf 68 = .ok (.goto 5, 3) := dk_167 0 5 (dk_at dksX3_outlookOf_2 21 rfl rfl)
theorem dX3_outlookOf_71 : decode cX3_outlookOf 71 = .ok (.iload 4, 2) := dk_21 4 (dk_at dksX3_outlookOf_3 0 rfl rfl)
theorem dX3_outlookOf_73 : decode cX3_outlookOf 73 = .ok (.istore 4, 2) := dk_54 4 (dk_at dksX3_outlookOf_3 2 rfl rfl)
theorem dX3_outlookOf_75 : decode cX3_outlookOf 75 = .ok (.iinc 5 1, 3) := dk_132 5 1 (dk_at dksX3_outlookOf_3 4 rfl rfl)
theorem dX3_outlookOf_78 : decode cX3_outlookOf 78 = .ok (.goto (-55), 3) := dk_167 255 201 (dk_at dksX3_outlookOf_3 7 rfl rfl)
theorem dX3_outlookOf_81 : decode cX3_outlookOf 81 = .ok (.iload 4, 2) := dk_21 4 (dk_at dksX3_outlookOf_3 10 rfl rfl)
theorem dX3_outlookOf_83 : decode cX3_outlookOf 83 = .ok (.ireturn, 1) := dk_172 (dk_at dksX3_outlookOf_3 12 rfl rfl)
/-- PackingDuelModel.outlookOf(III)I -/
def zb227 (G : zPg) (C : zO) (args : List Value) (Q : zQ) (Y : zY) (σ : zS) : Prop := ∃ (a0 : Nat) (x1 : Int32) (x2 : Int32) (x3 : Int32), args = [.ref a0, .int x1, .int x2, .int x3] ∧ (zrc σ (some a0) 4 (fun a4 => zcl C 220 [.ref a4, .int x1] Y σ (zqI (fun v1 s2 => ((¬ v1 = 0) → zrc s2 (some a0) 4 (fun a12 => zcl C 228 [.ref a12, .int x1, .int x2, .int x3, .int (-1 : Int32)] Y s2 (zqI (fun v9 s10 => ∃ n, zIt (fun _ _ _ => False) (fun rec19 (p16 : Int32) (p17 : Int32) (s18 : zS) => zrc s18 (some a0) 4 (fun a23 => zcl C 159 [.ref a23] Y s18 (zqI (fun v20 s21 => ((v20 ≤ p17) → Q (some (.int p16)) s21) ∧ ((¬ v20 ≤ p17) → zrc s21 (some a0) 4 (fun a31 => zcl C 223 [.ref a31, .int x1, .int x2, .int p17] Y s21 (zqI (fun v28 s29 => zJ (fun (p35 : Int32) (s36 : zS) => (∀ v38 : Int32, v38 = p17 + (1 : Int32) → rec19 p35 v38 s36)) (fun (j37 : Int32 → zS → Prop) => ((v28 = 0) → j37 p16 s29) ∧ ((¬ v28 = 0) → zrc s29 (some a0) 4 (fun a44 => zcl C 228 [.ref a44, .int x1, .int x2, .int x3, .int p17] Y s29 (zqI (fun v41 s42 => zrc s42 (some a0) 4 (fun a51 => zcl C 229 [.ref a51, .int x2, .int v41, .int p16] Y s42 (zqI (fun v48 s49 => zJ (fun (p55 : Int32) (s56 : zS) => j37 p55 s56) (fun (j57 : Int32 → zS → Prop) => ((v48 = 0) → j57 p16 s49) ∧ ((¬ v48 = 0) → j57 v41 s49)))))))))))))))))) n v9 (0 : Int32) s10)))) ∧ ((v1 = 0) → Q (some (.int (0 : Int32))) s2)))))
set_option maxHeartbeats 4000000 in
theorem wk227 {l : Launch} {g : zG} {d : Nat} {C : zO} (hG : zGk g) (hC : zSound l g d C) {args : List Value} {Q : zQ} {Y : zY} {σ : zS} (hw : zb227 (zpg g) C args Q Y σ) : zMet l g (d + 1) (⟨"PackingDuelModel", "outlookOf", "(III)I"⟩, Cond.code ⟨"PackingDuelModel", "outlookOf", "(III)I"⟩ prog_28_method_54_code 7 (Option.some FieldType.int)) args σ Q Y := by
  obtain ⟨a0, x1, x2, x3, rfl, hw⟩ := hw
  refine zof hG (by decide +kernel) [false, false, false, false] ⟨rfl, rfl, rfl, rfl, trivial⟩ (Nat.le_of_ble_eq_true rfl) (ls := [some (va_rf (some a0)), some (.int x1), some (.int x2), some (.int x3), none, none, none]) rfl ?_
  intro X hX hR hTb hd1 hd2 hl hg hnm
  subst hl
  subst hg
  have hd : zDep X d := ⟨hd1, hd2⟩
  refine z_aload_n hX dX3_outlookOf_0 rfl (i := 0) rfl ?_
  refine z_iload_n hX dX3_outlookOf_1 rfl (i := 1) rfl ?_
  obtain ⟨a4, f5, r6, m7, hw⟩ := hw
  refine z_invV hX hd r6 (ci := 4) rfl rfl m7 dX3_outlookOf_2 (hC 220 _ zm220 _ _ _ _ hw) q2845 q2847 qs84 zh7 q2848 q136 zn220 rfl (Nat.le_of_ble_eq_true rfl) (st := []) rfl (zcs8 (Nat.le_of_ble_eq_true rfl)) rfl (zkI (fun v1 s2 hw => ?_)) (zout hX hR hTb)
  refine z_if_ne hX dX3_outlookOf_5 (tgt := 10) rfl (fun c8 => ?_) (fun c8 => ?_)
  · have hw := hw.1 c8
    refine z_aload_n hX dX3_outlookOf_10 rfl (i := 0) rfl ?_
    refine z_iload_n hX dX3_outlookOf_11 rfl (i := 1) rfl ?_
    refine z_iload_n hX dX3_outlookOf_12 rfl (i := 2) rfl ?_
    refine z_iload_n hX dX3_outlookOf_13 rfl (i := 3) rfl ?_
    refine z_iconst hX (v := (-1 : Int32)) dX3_outlookOf_14 (by decide) ?_
    obtain ⟨a12, f13, r14, m15, hw⟩ := hw
    refine z_invV hX hd r14 (ci := 4) rfl rfl m15 dX3_outlookOf_15 (hC 228 _ zm228 _ _ _ _ hw) q2876 q2878 qs89 zh7 q2879 q136 zn228 rfl (Nat.le_of_ble_eq_true rfl) (st := []) rfl (zcs8 (Nat.le_of_ble_eq_true rfl)) rfl (zkI (fun v9 s10 hw => ?_)) (zout hX hR hTb)
    refine z_istore hX dX3_outlookOf_18 (i := 4) (Nat.le_of_ble_eq_true rfl) rfl (ls2 := [some (va_rf (some a0)), some (.int x1), some (.int x2), some (.int x3), some (.int v9), none, none]) rfl ?_
    refine z_iconst hX (v := (0 : Int32)) dX3_outlookOf_20 (by decide) ?_
    refine z_istore hX dX3_outlookOf_21 (i := 5) (Nat.le_of_ble_eq_true rfl) rfl (ls2 := [some (va_rf (some a0)), some (.int x1), some (.int x2), some (.int x3), some (.int v9), some (.int (0 : Int32)), none]) rfl ?_
    obtain ⟨n59, hw⟩ := hw
    refine zIt_w (P := fun (j : Int32 → Int32 → zS → Prop) => ∀ (p16 : Int32) (p17 : Int32) (s18 : zS), j p16 p17 s18 → zW X s18 23 [some (va_rf (some a0)), some (.int x1), some (.int x2), some (.int x3), some (.int p16), some (.int p17), none] []) (fun _ _ _ h => h.elim) (fun rec19 hrec19 p16 p17 s18 hw => ?_) n59 _ _ _ hw
    refine z_iload hX dX3_outlookOf_23 (i := 5) rfl ?_
    refine z_aload_n hX dX3_outlookOf_25 rfl (i := 0) rfl ?_
    obtain ⟨a23, f24, r25, m26, hw⟩ := hw
    refine z_invV hX hd r25 (ci := 4) rfl rfl m26 dX3_outlookOf_26 (hC 159 _ zm159 _ _ _ _ hw) q2605 q2607 qs46 zh7 q2608 q136 zn159 rfl (Nat.le_of_ble_eq_true rfl) (st := [.int p17]) rfl (zcs8 (Nat.le_of_ble_eq_true rfl)) rfl (zkI (fun v20 s21 hw => ?_)) (zout hX hR hTb)
    refine z_icmp_ge hX dX3_outlookOf_29 (tgt := 81) rfl (fun c27 => ?_) (fun c27 => ?_)
    · have hw := hw.1 c27
      refine z_iload hX dX3_outlookOf_81 (i := 4) rfl ?_
      exact z_ireturn hX hR dX3_outlookOf_83 rfl hw
    · have hw := hw.2 c27
      refine z_aload_n hX dX3_outlookOf_32 rfl (i := 0) rfl ?_
      refine z_iload_n hX dX3_outlookOf_33 rfl (i := 1) rfl ?_
      refine z_iload_n hX dX3_outlookOf_34 rfl (i := 2) rfl ?_
      refine z_iload hX dX3_outlookOf_35 (i := 5) rfl ?_
      obtain ⟨a31, f32, r33, m34, hw⟩ := hw
      refine z_invV hX hd r33 (ci := 4) rfl rfl m34 dX3_outlookOf_37 (hC 223 _ zm223 _ _ _ _ hw) q2857 q2859 qs86 zh7 q2860 q136 zn223 rfl (Nat.le_of_ble_eq_true rfl) (st := []) rfl (zcs8 (Nat.le_of_ble_eq_true rfl)) rfl (zkI (fun v28 s29 hw => ?_)) (zout hX hR hTb)
      refine zJ_w (P := fun (j : Int32 → zS → Prop) => ∀ (p35 : Int32) (s36 : zS), j p35 s36 → zW X s36 75 [some (va_rf (some a0)), some (.int x1), some (.int x2), some (.int x3), some (.int p35), some (.int p17), none] []) hw (fun p35 s36 hw => ?_) (fun j37 hj37 hw => ?_)
      · obtain ⟨v38, e39⟩ : ∃ y : Int32, y = p17 + (1 : Int32) := ⟨_, rfl⟩
        refine z_iinc hX dX3_outlookOf_75 (i := 5) (v := v38) rfl (by rw [e39]; rfl) (Nat.le_of_ble_eq_true rfl) rfl (ls2 := [some (va_rf (some a0)), some (.int x1), some (.int x2), some (.int x3), some (.int p35), some (.int v38), none]) rfl ?_
        have hw := hw v38 e39
        refine z_goto hX dX3_outlookOf_78 (tgt := 23) rfl ?_
        exact hrec19 _ _ _ hw
      · refine z_if_eq hX dX3_outlookOf_40 (tgt := 75) rfl (fun c40 => ?_) (fun c40 => ?_)
        · have hw := hw.1 c40
          exact hj37 _ _ hw
        · have hw := hw.2 c40
          refine z_aload_n hX dX3_outlookOf_43 rfl (i := 0) rfl ?_
          refine z_iload_n hX dX3_outlookOf_44 rfl (i := 1) rfl ?_
          refine z_iload_n hX dX3_outlookOf_45 rfl (i := 2) rfl ?_
          refine z_iload_n hX dX3_outlookOf_46 rfl (i := 3) rfl ?_
          refine z_iload hX dX3_outlookOf_47 (i := 5) rfl ?_
          obtain ⟨a44, f45, r46, m47, hw⟩ := hw
          refine z_invV hX hd r46 (ci := 4) rfl rfl m47 dX3_outlookOf_49 (hC 228 _ zm228 _ _ _ _ hw) q2876 q2878 qs89 zh7 q2879 q136 zn228 rfl (Nat.le_of_ble_eq_true rfl) (st := []) rfl (zcs8 (Nat.le_of_ble_eq_true rfl)) rfl (zkI (fun v41 s42 hw => ?_)) (zout hX hR hTb)
          refine z_istore hX dX3_outlookOf_52 (i := 6) (Nat.le_of_ble_eq_true rfl) rfl (ls2 := [some (va_rf (some a0)), some (.int x1), some (.int x2), some (.int x3), some (.int p16), some (.int p17), some (.int v41)]) rfl ?_
          refine z_aload_n hX dX3_outlookOf_54 rfl (i := 0) rfl ?_
          refine z_iload_n hX dX3_outlookOf_55 rfl (i := 2) rfl ?_
          refine z_iload hX dX3_outlookOf_56 (i := 6) rfl ?_
          refine z_iload hX dX3_outlookOf_58 (i := 4) rfl ?_
          obtain ⟨a51, f52, r53, m54, hw⟩ := hw
          refine z_invV hX hd r53 (ci := 4) rfl rfl m54 dX3_outlookOf_60 (hC 229 _ zm229 _ _ _ _ hw) q2880 q2882 qs90 zh7 q2883 q136 zn229 rfl (Nat.le_of_ble_eq_true rfl) (st := []) rfl (zcs8 (Nat.le_of_ble_eq_true rfl)) rfl (zkI (fun v48 s49 hw => ?_)) (zout hX hR hTb)
          refine zJ_w (P := fun (j : Int32 → zS → Prop) => ∀ (p55 : Int32) (s56 : zS), j p55 s56 → zW X s56 73 [some (va_rf (some a0)), some (.int x1), some (.int x2), some (.int x3), none, some (.int p17), none] [.int p55]) hw (fun p55 s56 hw => ?_) (fun j57 hj57 hw => ?_)
          · refine z_istore hX dX3_outlookOf_73 (i := 4) (Nat.le_of_ble_eq_true rfl) rfl (ls2 := [some (va_rf (some a0)), some (.int x1), some (.int x2), some (.int x3), some (.int p55), some (.int p17), none]) rfl ?_
            exact hj37 _ _ hw
          · refine z_if_eq hX dX3_outlookOf_63 (tgt := 71) rfl (fun c58 => ?_) (fun c58 => ?_)
            · have hw := hw.1 c58
              refine z_iload hX dX3_outlookOf_71 (i := 4) rfl ?_
              refine z_sub (ls' := [some (va_rf (some a0)), some (.int x1), some (.int x2), some (.int x3), none, some (.int p17), none]) (zsS (zsS (zsS (zsS (zsN (zsS (zsN (zs0)))))))) ?_
              exact hj57 _ _ hw
            · have hw := hw.2 c58
              refine z_iload hX dX3_outlookOf_66 (i := 6) rfl ?_
              refine z_goto hX dX3_outlookOf_68 (tgt := 73) rfl ?_
              refine z_sub (ls' := [some (va_rf (some a0)), some (.int x1), some (.int x2), some (.int x3), none, some (.int p17), none]) (zsS (zsS (zsS (zsS (zsN (zsS (zsN (zs0)))))))) ?_
              exact hj57 _ _ hw
  · have hw := hw.2 c8
    refine z_iconst hX (v := (0 : Int32)) dX3_outlookOf_8 (by decide) ?_
    exact z_ireturn hX hR dX3_outlookOf_9 rfl hw
abbrev cX3_movedTo : ByteArray := prog_28_method_52_code
def yX3_movedTo : MethodName := ⟨RX3, "movedTo", "(IIII)I"⟩
def dkwX3_movedTo_3 : List UInt8 := [184, 1, 4, 46, 96, 172]
abbrev dktX3_movedTo_3 : List UInt8 := dkwX3_movedTo_3 ++ []
def dkwX3_movedTo_2 : List UInt8 := [182, 0, 168, 116, 54, 5, 21, 5, 42, 180, 0, 56, 27, 4, 21, 4, 120, 128, 4, 28, 100, 3]
abbrev dktX3_movedTo_2 : List UInt8 := dkwX3_movedTo_2 ++ dktX3_movedTo_3
def dkwX3_movedTo_1 : List UInt8 := [184, 1, 4, 46, 172, 28, 154, 0, 13, 42, 21, 4, 4, 182, 0, 168, 167, 0, 11, 42, 21, 4, 6]
abbrev dktX3_movedTo_1 : List UInt8 := dkwX3_movedTo_1 ++ dktX3_movedTo_2
def dkwX3_movedTo_0 : List UInt8 := [21, 4, 2, 160, 0, 26, 29, 4, 160, 0, 7, 3, 167, 0, 16, 42, 180, 0, 56, 27, 4, 28, 100, 4]
abbrev dktX3_movedTo_0 : List UInt8 := dkwX3_movedTo_0 ++ dktX3_movedTo_1
theorem dksX3_movedTo_0 : cX3_movedTo.data.toList.drop 0 = dktX3_movedTo_0 := by decide +kernel
theorem dksX3_movedTo_1 : cX3_movedTo.data.toList.drop 24 = dktX3_movedTo_1 := dk_seg dksX3_movedTo_0 24 rfl rfl
theorem dksX3_movedTo_2 : cX3_movedTo.data.toList.drop 47 = dktX3_movedTo_2 := dk_seg dksX3_movedTo_1 23 rfl rfl
theorem dksX3_movedTo_3 : cX3_movedTo.data.toList.drop 69 = dktX3_movedTo_3 := dk_seg dksX3_movedTo_2 22 rfl rfl
theorem dX3_movedTo_0 : decode cX3_movedTo 0 = .ok (.iload 4, 2) := dk_21 4 (dk_at dksX3_movedTo_0 0 rfl rfl)
theorem dX3_movedTo_2 : decode cX3_movedTo 2 = .ok (.iconst (-1), 1) := dk_2 (dk_at dksX3_movedTo_0 2 rfl rfl)
theorem dX3_movedTo_3 : decode cX3_movedTo 3 = .ok (.if_icmp .ne 26, 3) := dk_160 0 26 (dk_at dksX3_movedTo_0 3 rfl rfl)
theorem dX3_movedTo_6 : decode cX3_movedTo 6 = .ok (.iload_n 3, 1) := dk_29 (dk_at dksX3_movedTo_0 6 rfl rfl)
theorem dX3_movedTo_7 : decode cX3_movedTo 7 = .ok (.iconst 1, 1) := dk_4 (dk_at dksX3_movedTo_0 7 rfl rfl)
theorem dX3_movedTo_8 : decode cX3_movedTo 8 = .ok (.if_icmp .ne 7, 3) := dk_160 0 7 (dk_at dksX3_movedTo_0 8 rfl rfl)
theorem dX3_movedTo_11 : decode cX3_movedTo 11 = .ok (.iconst 0, 1) := dk_3 (dk_at dksX3_movedTo_0 11 rfl rfl)
theorem dX3_movedTo_12 : decode cX3_movedTo 12 = .ok (.goto 16, 3) := dk_167 0 16 (dk_at dksX3_movedTo_0 12 rfl rfl)
theorem dX3_movedTo_15 : decode cX3_movedTo 15 = .ok (.aload_n 0, 1) := dk_42 (dk_at dksX3_movedTo_0 15 rfl rfl)
theorem dX3_movedTo_16 : decode cX3_movedTo 16 = .ok (.getfield 56, 3) := dk_180 0 56 (dk_at dksX3_movedTo_0 16 rfl rfl)
theorem dX3_movedTo_19 : decode cX3_movedTo 19 = .ok (.iload_n 1, 1) := dk_27 (dk_at dksX3_movedTo_0 19 rfl rfl)
theorem dX3_movedTo_20 : decode cX3_movedTo 20 = .ok (.iconst 1, 1) := dk_4 (dk_at dksX3_movedTo_0 20 rfl rfl)
theorem dX3_movedTo_21 : decode cX3_movedTo 21 = .ok (.iload_n 2, 1) := dk_28 (dk_at dksX3_movedTo_0 21 rfl rfl)
theorem dX3_movedTo_22 : decode cX3_movedTo 22 = .ok (.isub, 1) := dk_100 (dk_at dksX3_movedTo_0 22 rfl rfl)
theorem dX3_movedTo_23 : decode cX3_movedTo 23 = .ok (.iconst 1, 1) := dk_4 (dk_at dksX3_movedTo_0 23 rfl rfl)
theorem dX3_movedTo_24 : decode cX3_movedTo 24 = .ok (.invokestatic 260, 3) := dk_184 1 4 (dk_at dksX3_movedTo_1 0 rfl rfl)
theorem dX3_movedTo_27 : decode cX3_movedTo 27 = .ok (.iaload, 1) := dk_46 (dk_at dksX3_movedTo_1 3 rfl rfl)
theorem dX3_movedTo_28 : decode cX3_movedTo 28 = .ok (.ireturn, 1) := dk_172 (dk_at dksX3_movedTo_1 4 rfl rfl)
theorem dX3_movedTo_29 : decode cX3_movedTo 29 = .ok (.iload_n 2, 1) := dk_28 (dk_at dksX3_movedTo_1 5 rfl rfl)
theorem dX3_movedTo_30 : decode cX3_movedTo 30 = .ok (.ifCond .ne 13, 3) := dk_154 0 13 (dk_at dksX3_movedTo_1 6 rfl rfl)
theorem dX3_movedTo_33 : decode cX3_movedTo 33 = .ok (.aload_n 0, 1) := dk_42 (dk_at dksX3_movedTo_1 9 rfl rfl)
theorem dX3_movedTo_34 : decode cX3_movedTo 34 = .ok (.iload 4, 2) := dk_21 4 (dk_at dksX3_movedTo_1 10 rfl rfl)
theorem dX3_movedTo_36 : decode cX3_movedTo 36 = .ok (.iconst 1, 1) := dk_4 (dk_at dksX3_movedTo_1 12 rfl rfl)
theorem dX3_movedTo_37 : decode cX3_movedTo 37 = .ok (.invokevirtual 168, 3) := dk_182 0 168 (dk_at dksX3_movedTo_1 13 rfl rfl)
theorem dX3_movedTo_40 : decode cX3_movedTo 40 = .ok (.goto 11, 3) := dk_167 0 11 (dk_at dksX3_movedTo_1 16 rfl rfl)
theorem dX3_movedTo_43 : decode cX3_movedTo 43 = .ok (.aload_n 0, 1) := dk_42 (dk_at dksX3_movedTo_1 19 rfl rfl)
theorem dX3_movedTo_44 : decode cX3_movedTo 44 = .ok (.iload 4, 2) := dk_21 4 (dk_at dksX3_movedTo_1 20 rfl rfl)
theorem dX3_movedTo_46 : decode cX3_movedTo 46 = .ok (.iconst 3, 1) := dk_6 (dk_at dksX3_movedTo_1 22 rfl rfl)
theorem dX3_movedTo_47 : decode cX3_movedTo 47 = .ok (.invokevirtual 168, 3) := dk_182 0 168 (dk_at dksX3_movedTo_2 0 rfl rfl)
theorem dX3_movedTo_50 : decode cX3_movedTo 50 = .ok (.ineg, 1) := dk_116 (dk_at dksX3_movedTo_2 3 rfl rfl)
theorem dX3_movedTo_51 : decode cX3_movedTo 51 = .ok (.istore 5, 2) := dk_54 5 (dk_at dksX3_movedTo_2 4 rfl rfl)
theorem dX3_movedTo_53 : decode cX3_movedTo 53 = .ok (.iload 5, 2) := dk_21 5 (dk_at dksX3_movedTo_2 6 rfl rfl)
theorem dX3_movedTo_55 : decode cX3_movedTo 55 = .ok (.aload_n 0, 1) := dk_42 (dk_at dksX3_movedTo_2 8 rfl rfl)
theorem dX3_movedTo_56 : decode cX3_movedTo 56 = .ok (.getfield 56, 3) := dk_180 0 56 (dk_at dksX3_movedTo_2 9 rfl rfl)
theorem dX3_movedTo_59 : decode cX3_movedTo 59 = .ok (.iload_n 1, 1) := dk_27 (dk_at dksX3_movedTo_2 12 rfl rfl)
theorem dX3_movedTo_60 : decode cX3_movedTo 60 = .ok (.iconst 1, 1) := dk_4 (dk_at dksX3_movedTo_2 13 rfl rfl)
theorem dX3_movedTo_61 : decode cX3_movedTo 61 = .ok (.iload 4, 2) := dk_21 4 (dk_at dksX3_movedTo_2 14 rfl rfl)
theorem dX3_movedTo_63 : decode cX3_movedTo 63 = .ok (.ishl, 1) := dk_120 (dk_at dksX3_movedTo_2 16 rfl rfl)
theorem dX3_movedTo_64 : decode cX3_movedTo 64 = .ok (.ior, 1) := dk_128 (dk_at dksX3_movedTo_2 17 rfl rfl)
theorem dX3_movedTo_65 : decode cX3_movedTo 65 = .ok (.iconst 1, 1) := dk_4 (dk_at dksX3_movedTo_2 18 rfl rfl)
theorem dX3_movedTo_66 : decode cX3_movedTo 66 = .ok (.iload_n 2, 1) := dk_28 (dk_at dksX3_movedTo_2 19 rfl rfl)
theorem dX3_movedTo_67 : decode cX3_movedTo 67 = .ok (.isub, 1) := dk_100 (dk_at dksX3_movedTo_2 20 rfl rfl)
theorem dX3_movedTo_68 : decode cX3_movedTo 68 = .ok (.iconst 0, 1) := dk_3 (dk_at dksX3_movedTo_2 21 rfl rfl)
theorem dX3_movedTo_69 : decode cX3_movedTo 69 = .ok (.invokestatic 260, 3) := dk_184 1 4 (dk_at dksX3_movedTo_3 0 rfl rfl)
theorem dX3_movedTo_72 : decode cX3_movedTo 72 = .ok (.iaload, 1) := dk_46 (dk_at dksX3_movedTo_3 3 rfl rfl)
theorem dX3_movedTo_73 : decode cX3_movedTo 73 = .ok (.iadd, 1) := dk_96 (dk_at dksX3_movedTo_3 4 rfl rfl)
theorem dX3_movedTo_74 : decode cX3_movedTo 74 = .ok (.ireturn, 1) := dk_172 (dk_at dksX3_movedTo_3 5 rfl rfl)
/-- PackingDuelModel.movedTo(IIII)I -/
def zb228 (G : zPg) (C : zO) (args : List Value) (Q : zQ) (Y : zY) (σ : zS) : Prop := ∃ (a0 : Nat) (x1 : Int32) (x2 : Int32) (x3 : Int32) (x4 : Int32), args = [.ref a0, .int x1, .int x2, .int x3, .int x4] ∧ (((¬ x4 = (-1 : Int32)) → zJ (fun (p2 : Int32) (s3 : zS) => zgR s3 (some a0) 4 24 (fun v5 => zcl C 226 [.int (x1 ||| ((1 : Int32) <<< (x4 &&& 31))), .int ((1 : Int32) - x2), .int (0 : Int32)] Y s3 (zqI (fun v11 s12 => zaI s12 0 v5 v11 (fun v20 => Q (some (.int (p2 + v20))) s12))))) (fun (j4 : Int32 → zS → Prop) => ((¬ x2 = 0) → zrc σ (some a0) 4 (fun a26 => zcl C 167 [.ref a26, .int x4, .int (3 : Int32)] Y σ (zqI (fun v23 s24 => j4 (-v23) s24)))) ∧ ((x2 = 0) → zrc σ (some a0) 4 (fun a33 => zcl C 167 [.ref a33, .int x4, .int (1 : Int32)] Y σ (zqI (fun v30 s31 => j4 v30 s31)))))) ∧ ((x4 = (-1 : Int32)) → zJ (fun (p37 : Int32) (s38 : zS) => Q (some (.int p37)) s38) (fun (j39 : Int32 → zS → Prop) => ((¬ x3 = (1 : Int32)) → zgR σ (some a0) 4 24 (fun v41 => zcl C 226 [.int x1, .int ((1 : Int32) - x2), .int (1 : Int32)] Y σ (zqI (fun v47 s48 => zaI s48 0 v41 v47 (fun v56 => j39 v56 s48))))) ∧ ((x3 = (1 : Int32)) → j39 (0 : Int32) σ))))
set_option maxHeartbeats 4000000 in
theorem wk228 {l : Launch} {g : zG} {d : Nat} {C : zO} (hG : zGk g) (hC : zSound l g d C) {args : List Value} {Q : zQ} {Y : zY} {σ : zS} (hw : zb228 (zpg g) C args Q Y σ) : zMet l g (d + 1) (⟨"PackingDuelModel", "movedTo", "(IIII)I"⟩, Cond.code ⟨"PackingDuelModel", "movedTo", "(IIII)I"⟩ prog_28_method_52_code 6 (Option.some FieldType.int)) args σ Q Y := by
  obtain ⟨a0, x1, x2, x3, x4, rfl, hw⟩ := hw
  refine zof hG (by decide +kernel) [false, false, false, false, false] ⟨rfl, rfl, rfl, rfl, rfl, trivial⟩ (Nat.le_of_ble_eq_true rfl) (ls := [some (va_rf (some a0)), some (.int x1), some (.int x2), some (.int x3), some (.int x4), none]) rfl ?_
  intro X hX hR hTb hd1 hd2 hl hg hnm
  subst hl
  subst hg
  have hd : zDep X d := ⟨hd1, hd2⟩
  refine z_iload hX dX3_movedTo_0 (i := 4) rfl ?_
  refine z_iconst hX (v := (-1 : Int32)) dX3_movedTo_2 (by decide) ?_
  refine z_icmp_ne hX dX3_movedTo_3 (tgt := 29) rfl (fun c1 => ?_) (fun c1 => ?_)
  · have hw := hw.1 c1
    refine z_iload_n hX dX3_movedTo_29 rfl (i := 2) rfl ?_
    refine zJ_w (P := fun (j : Int32 → zS → Prop) => ∀ (p2 : Int32) (s3 : zS), j p2 s3 → zW X s3 51 [some (va_rf (some a0)), some (.int x1), some (.int x2), none, some (.int x4), none] [.int p2]) hw (fun p2 s3 hw => ?_) (fun j4 hj4 hw => ?_)
    · refine z_istore hX dX3_movedTo_51 (i := 5) (Nat.le_of_ble_eq_true rfl) rfl (ls2 := [some (va_rf (some a0)), some (.int x1), some (.int x2), none, some (.int x4), some (.int p2)]) rfl ?_
      refine z_iload hX dX3_movedTo_53 (i := 5) rfl ?_
      refine z_aload_n hX dX3_movedTo_55 rfl (i := 0) rfl ?_
      obtain ⟨a6, f7, v5, r8, m9, e10, hw⟩ := hw
      refine z_get hX zc4 (k := 24) dX3_movedTo_56 (Nat.le_of_ble_eq_true rfl) (zlk hX q2493) r8 m9 e10 ?_
      refine z_iload_n hX dX3_movedTo_59 rfl (i := 1) rfl ?_
      refine z_iconst hX (v := (1 : Int32)) dX3_movedTo_60 (by decide) ?_
      refine z_iload hX dX3_movedTo_61 (i := 4) rfl ?_
      refine z_ishl hX dX3_movedTo_63 ?_
      refine z_ior hX dX3_movedTo_64 ?_
      refine z_iconst hX (v := (1 : Int32)) dX3_movedTo_65 (by decide) ?_
      refine z_iload_n hX dX3_movedTo_66 rfl (i := 2) rfl ?_
      refine z_isub hX dX3_movedTo_67 ?_
      refine z_iconst hX (v := (0 : Int32)) dX3_movedTo_68 (by decide) ?_
      refine z_invS hX hd dX3_movedTo_69 (hC 226 _ zm226 _ _ _ _ hw) q2869 q2870 zh7 q2871 q136 zn226 rfl (Nat.le_of_ble_eq_true rfl) (st := [va_rf v5, .int p2]) rfl (zcs8 (Nat.le_of_ble_eq_true rfl)) rfl (zkI (fun v11 s12 hw => ?_)) (zout hX hR hTb)
      obtain ⟨a14, n15, f16, r17, m18, i19, hw⟩ := hw
      refine z_iald hX dX3_movedTo_72 r17 m18 i19 ?_
      revert hw
      generalize f16 (Int32.toNatClampNeg v11) = v20
      intro hw
      refine z_iadd hX dX3_movedTo_73 ?_
      exact z_ireturn hX hR dX3_movedTo_74 rfl hw
    · refine z_if_ne hX dX3_movedTo_30 (tgt := 43) rfl (fun c22 => ?_) (fun c22 => ?_)
      · have hw := hw.1 c22
        refine z_aload_n hX dX3_movedTo_43 rfl (i := 0) rfl ?_
        refine z_iload hX dX3_movedTo_44 (i := 4) rfl ?_
        refine z_iconst hX (v := (3 : Int32)) dX3_movedTo_46 (by decide) ?_
        obtain ⟨a26, f27, r28, m29, hw⟩ := hw
        refine z_invV hX hd r28 (ci := 4) rfl rfl m29 dX3_movedTo_47 (hC 167 _ zm167 _ _ _ _ hw) q2635 q2637 qs51 zh7 q2638 q136 zn167 rfl (Nat.le_of_ble_eq_true rfl) (st := []) rfl (zcs8 (Nat.le_of_ble_eq_true rfl)) rfl (zkI (fun v23 s24 hw => ?_)) (zout hX hR hTb)
        refine z_ineg hX dX3_movedTo_50 ?_
        refine z_sub (ls' := [some (va_rf (some a0)), some (.int x1), some (.int x2), none, some (.int x4), none]) (zsS (zsS (zsS (zsN (zsS (zsN (zs0))))))) ?_
        exact hj4 _ _ hw
      · have hw := hw.2 c22
        refine z_aload_n hX dX3_movedTo_33 rfl (i := 0) rfl ?_
        refine z_iload hX dX3_movedTo_34 (i := 4) rfl ?_
        refine z_iconst hX (v := (1 : Int32)) dX3_movedTo_36 (by decide) ?_
        obtain ⟨a33, f34, r35, m36, hw⟩ := hw
        refine z_invV hX hd r35 (ci := 4) rfl rfl m36 dX3_movedTo_37 (hC 167 _ zm167 _ _ _ _ hw) q2635 q2637 qs51 zh7 q2638 q136 zn167 rfl (Nat.le_of_ble_eq_true rfl) (st := []) rfl (zcs8 (Nat.le_of_ble_eq_true rfl)) rfl (zkI (fun v30 s31 hw => ?_)) (zout hX hR hTb)
        refine z_goto hX dX3_movedTo_40 (tgt := 51) rfl ?_
        refine z_sub (ls' := [some (va_rf (some a0)), some (.int x1), some (.int x2), none, some (.int x4), none]) (zsS (zsS (zsS (zsN (zsS (zsN (zs0))))))) ?_
        exact hj4 _ _ hw
  · have hw := hw.2 c1
    refine z_iload_n hX dX3_movedTo_6 rfl (i := 3) rfl ?_
    refine z_iconst hX (v := (1 : Int32)) dX3_movedTo_7 (by decide) ?_
    refine zJ_w (P := fun (j : Int32 → zS → Prop) => ∀ (p37 : Int32) (s38 : zS), j p37 s38 → zW X s38 28 [none, none, none, none, none, none] [.int p37]) hw (fun p37 s38 hw => ?_) (fun j39 hj39 hw => ?_)
    · exact z_ireturn hX hR dX3_movedTo_28 rfl hw
    · refine z_icmp_ne hX dX3_movedTo_8 (tgt := 15) rfl (fun c40 => ?_) (fun c40 => ?_)
      · have hw := hw.1 c40
        refine z_aload_n hX dX3_movedTo_15 rfl (i := 0) rfl ?_
        obtain ⟨a42, f43, v41, r44, m45, e46, hw⟩ := hw
        refine z_get hX zc4 (k := 24) dX3_movedTo_16 (Nat.le_of_ble_eq_true rfl) (zlk hX q2493) r44 m45 e46 ?_
        refine z_iload_n hX dX3_movedTo_19 rfl (i := 1) rfl ?_
        refine z_iconst hX (v := (1 : Int32)) dX3_movedTo_20 (by decide) ?_
        refine z_iload_n hX dX3_movedTo_21 rfl (i := 2) rfl ?_
        refine z_isub hX dX3_movedTo_22 ?_
        refine z_iconst hX (v := (1 : Int32)) dX3_movedTo_23 (by decide) ?_
        refine z_invS hX hd dX3_movedTo_24 (hC 226 _ zm226 _ _ _ _ hw) q2869 q2870 zh7 q2871 q136 zn226 rfl (Nat.le_of_ble_eq_true rfl) (st := [va_rf v41]) rfl (zcs8 (Nat.le_of_ble_eq_true rfl)) rfl (zkI (fun v47 s48 hw => ?_)) (zout hX hR hTb)
        obtain ⟨a50, n51, f52, r53, m54, i55, hw⟩ := hw
        refine z_iald hX dX3_movedTo_27 r53 m54 i55 ?_
        revert hw
        generalize f52 (Int32.toNatClampNeg v47) = v56
        intro hw
        refine z_sub (ls' := [none, none, none, none, none, none]) (zsN (zsN (zsN (zsN (zsN (zsN (zs0))))))) ?_
        exact hj39 _ _ hw
      · have hw := hw.2 c40
        refine z_iconst hX (v := (0 : Int32)) dX3_movedTo_11 (by decide) ?_
        refine z_goto hX dX3_movedTo_12 (tgt := 28) rfl ?_
        refine z_sub (ls' := [none, none, none, none, none, none]) (zsN (zsN (zsN (zsN (zsN (zsN (zs0))))))) ?_
        exact hj39 _ _ hw
abbrev cX3_isBetter : ByteArray := prog_28_method_53_code
def yX3_isBetter : MethodName := ⟨RX3, "isBetter", "(III)Z"⟩
def dkwX3_isBetter_1 : List UInt8 := [167, 0, 4, 3, 172]
abbrev dktX3_isBetter_1 : List UInt8 := dkwX3_isBetter_1 ++ []
def dkwX3_isBetter_0 : List UInt8 := [27, 154, 0, 16, 28, 29, 164, 0, 7, 4, 167, 0, 17, 3, 167, 0, 13, 28, 29, 162, 0, 7, 4]
abbrev dktX3_isBetter_0 : List UInt8 := dkwX3_isBetter_0 ++ dktX3_isBetter_1
theorem dksX3_isBetter_0 : cX3_isBetter.data.toList.drop 0 = dktX3_isBetter_0 := by decide +kernel
theorem dksX3_isBetter_1 : cX3_isBetter.data.toList.drop 23 = dktX3_isBetter_1 := dk_seg dksX3_isBetter_0 23 rfl rfl
theorem dX3_isBetter_0 : decode cX3_isBetter 0 = .ok (.iload_n 1, 1) := dk_27 (dk_at dksX3_isBetter_0 0 rfl rfl)
theorem dX3_isBetter_1 : decode cX3_isBetter 1 = .ok (.ifCond .ne 16, 3) := dk_154 0 16 (dk_at dksX3_isBetter_0 1 rfl rfl)
theorem dX3_isBetter_4 : decode cX3_isBetter 4 = .ok (.iload_n 2, 1) := dk_28 (dk_at dksX3_isBetter_0 4 rfl rfl)
theorem dX3_isBetter_5 : decode cX3_isBetter 5 = .ok (.iload_n 3, 1) := dk_29 (dk_at dksX3_isBetter_0 5 rfl rfl)
theorem dX3_isBetter_6 : decode cX3_isBetter 6 = .ok (.if_icmp .le 7, 3) := dk_164 0 7 (dk_at dksX3_isBetter_0 6 rfl rfl)
theorem dX3_isBetter_9 : decode cX3_isBetter 9 = .ok (.iconst 1, 1) := dk_4 (dk_at dksX3_isBetter_0 9 rfl rfl)
theorem dX3_isBetter_10 : decode cX3_isBetter 10 = .ok (.goto 17, 3) := dk_167 0 17 (dk_at dksX3_isBetter_0 10 rfl rfl)
theorem dX3_isBetter_13 : decode cX3_isBetter 13 = .ok (.iconst 0, 1) := dk_3 (dk_at dksX3_isBetter_0 13 rfl rfl)
theorem dX3_isBetter_14 : decode cX3_isBetter 14 = .ok (.goto 13, 3) := dk_167 0 13 (dk_at dksX3_isBetter_0 14 rfl rfl)
theorem dX3_isBetter_17 : decode cX3_isBetter 17 = .ok (.iload_n 2, 1) := dk_28 (dk_at dksX3_isBetter_0 17 rfl rfl)
theorem dX3_isBetter_18 : decode cX3_isBetter 18 = .ok (.iload_n 3, 1) := dk_29 (dk_at dksX3_isBetter_0 18 rfl rfl)
theorem dX3_isBetter_19 : decode cX3_isBetter 19 = .ok (.if_icmp .ge 7, 3) := dk_162 0 7 (dk_at dksX3_isBetter_0 19 rfl rfl)
theorem dX3_isBetter_22 : decode cX3_isBetter 22 = .ok (.iconst 1, 1) := dk_4 (dk_at dksX3_isBetter_0 22 rfl rfl)
theorem dX3_isBetter_23 : decode cX3_isBetter 23 = .ok (.goto 4, 3) := dk_167 0 4 (dk_at dksX3_isBetter_1 0 rfl rfl)
theorem dX3_isBetter_26 : decode cX3_isBetter 26 = .ok (.iconst 0, 1) := dk_3 (dk_at dksX3_isBetter_1 3 rfl rfl)
theorem dX3_isBetter_27 : decode cX3_isBetter 27 = .ok (.ireturn, 1) := dk_172 (dk_at dksX3_isBetter_1 4 rfl rfl)
/-- PackingDuelModel.isBetter(III)Z -/
def zb229 (G : zPg) (C : zO) (args : List Value) (Q : zQ) (Y : zY) (σ : zS) : Prop := ∃ (a0 : Nat) (x1 : Int32) (x2 : Int32) (x3 : Int32), args = [.ref a0, .int x1, .int x2, .int x3] ∧ (zJ (fun (p1 : Int32) (s2 : zS) => zbool p1 ∧ Q (some (.int p1)) s2) (fun (j3 : Int32 → zS → Prop) => ((¬ x1 = 0) → ((x3 ≤ x2) → j3 (0 : Int32) σ) ∧ ((¬ x3 ≤ x2) → j3 (1 : Int32) σ)) ∧ ((x1 = 0) → ((x2 ≤ x3) → j3 (0 : Int32) σ) ∧ ((¬ x2 ≤ x3) → j3 (1 : Int32) σ))))
set_option maxHeartbeats 4000000 in
theorem wk229 {l : Launch} {g : zG} {d : Nat} {C : zO} (hG : zGk g) (hC : zSound l g d C) {args : List Value} {Q : zQ} {Y : zY} {σ : zS} (hw : zb229 (zpg g) C args Q Y σ) : zMet l g (d + 1) (⟨"PackingDuelModel", "isBetter", "(III)Z"⟩, Cond.code ⟨"PackingDuelModel", "isBetter", "(III)Z"⟩ prog_28_method_53_code 4 (Option.some FieldType.boolean)) args σ Q Y := by
  obtain ⟨a0, x1, x2, x3, rfl, hw⟩ := hw
  refine zof hG (by decide +kernel) [false, false, false, false] ⟨rfl, rfl, rfl, rfl, trivial⟩ (Nat.le_of_ble_eq_true rfl) (ls := [some (va_rf (some a0)), some (.int x1), some (.int x2), some (.int x3)]) rfl ?_
  intro X hX hR hTb hd1 hd2 hl hg hnm
  subst hl
  subst hg
  have hd : zDep X d := ⟨hd1, hd2⟩
  refine z_iload_n hX dX3_isBetter_0 rfl (i := 1) rfl ?_
  refine zJ_w (P := fun (j : Int32 → zS → Prop) => ∀ (p1 : Int32) (s2 : zS), j p1 s2 → zW X s2 27 [none, none, none, none] [.int p1]) hw (fun p1 s2 hw => ?_) (fun j3 hj3 hw => ?_)
  · exact z_ireturn hX hR dX3_isBetter_27 (zn_z hw.1) hw.2
  · refine z_if_ne hX dX3_isBetter_1 (tgt := 17) rfl (fun c4 => ?_) (fun c4 => ?_)
    · have hw := hw.1 c4
      refine z_iload_n hX dX3_isBetter_17 rfl (i := 2) rfl ?_
      refine z_iload_n hX dX3_isBetter_18 rfl (i := 3) rfl ?_
      refine z_icmp_ge hX dX3_isBetter_19 (tgt := 26) rfl (fun c5 => ?_) (fun c5 => ?_)
      · have hw := hw.1 c5
        refine z_iconst hX (v := (0 : Int32)) dX3_isBetter_26 (by decide) ?_
        refine z_sub (ls' := [none, none, none, none]) (zsN (zsN (zsN (zsN (zs0))))) ?_
        exact hj3 _ _ hw
      · have hw := hw.2 c5
        refine z_iconst hX (v := (1 : Int32)) dX3_isBetter_22 (by decide) ?_
        refine z_goto hX dX3_isBetter_23 (tgt := 27) rfl ?_
        refine z_sub (ls' := [none, none, none, none]) (zsN (zsN (zsN (zsN (zs0))))) ?_
        exact hj3 _ _ hw
    · have hw := hw.2 c4
      refine z_iload_n hX dX3_isBetter_4 rfl (i := 2) rfl ?_
      refine z_iload_n hX dX3_isBetter_5 rfl (i := 3) rfl ?_
      refine z_icmp_le hX dX3_isBetter_6 (tgt := 13) rfl (fun c6 => ?_) (fun c6 => ?_)
      · have hw := hw.1 c6
        refine z_iconst hX (v := (0 : Int32)) dX3_isBetter_13 (by decide) ?_
        refine z_goto hX dX3_isBetter_14 (tgt := 27) rfl ?_
        refine z_sub (ls' := [none, none, none, none]) (zsN (zsN (zsN (zsN (zs0))))) ?_
        exact hj3 _ _ hw
      · have hw := hw.2 c6
        refine z_iconst hX (v := (1 : Int32)) dX3_isBetter_9 (by decide) ?_
        refine z_goto hX dX3_isBetter_10 (tgt := 27) rfl ?_
        refine z_sub (ls' := [none, none, none, none]) (zsN (zsN (zsN (zsN (zs0))))) ?_
        exact hj3 _ _ hw
abbrev cX3_bestMove : ByteArray := prog_28_method_82_code
def yX3_bestMove : MethodName := ⟨RX3, "bestMove", "()I"⟩
def dkwX3_bestMove_0 : List UInt8 := [42, 3, 181, 0, 103, 42, 182, 1, 26, 153, 0, 6, 16, 254, 172, 42, 182, 1, 76, 42, 182, 1, 79, 172]
abbrev dktX3_bestMove_0 : List UInt8 := dkwX3_bestMove_0 ++ []
theorem dksX3_bestMove_0 : cX3_bestMove.data.toList.drop 0 = dktX3_bestMove_0 := by decide +kernel
theorem dX3_bestMove_0 : decode cX3_bestMove 0 = .ok (.aload_n 0, 1) := dk_42 (dk_at dksX3_bestMove_0 0 rfl rfl)
theorem dX3_bestMove_1 : decode cX3_bestMove 1 = .ok (.iconst 0, 1) := dk_3 (dk_at dksX3_bestMove_0 1 rfl rfl)
theorem dX3_bestMove_2 : decode cX3_bestMove 2 = .ok (.putfield 103, 3) := dk_181 0 103 (dk_at dksX3_bestMove_0 2 rfl rfl)
theorem dX3_bestMove_5 : decode cX3_bestMove 5 = .ok (.aload_n 0, 1) := dk_42 (dk_at dksX3_bestMove_0 5 rfl rfl)
theorem dX3_bestMove_6 : decode cX3_bestMove 6 = .ok (.invokevirtual 282, 3) := dk_182 1 26 (dk_at dksX3_bestMove_0 6 rfl rfl)
theorem dX3_bestMove_9 : decode cX3_bestMove 9 = .ok (.ifCond .eq 6, 3) := dk_153 0 6 (dk_at dksX3_bestMove_0 9 rfl rfl)
theorem dX3_bestMove_12 : decode cX3_bestMove 12 = .ok (.bipush (-2), 2) := dk_16 254 (dk_at dksX3_bestMove_0 12 rfl rfl)
theorem dX3_bestMove_14 : decode cX3_bestMove 14 = .ok (.ireturn, 1) := dk_172 (dk_at dksX3_bestMove_0 14 rfl rfl)
theorem dX3_bestMove_15 : decode cX3_bestMove 15 = .ok (.aload_n 0, 1) := dk_42 (dk_at dksX3_bestMove_0 15 rfl rfl)
theorem dX3_bestMove_16 : decode cX3_bestMove 16 = .ok (.invokevirtual 332, 3) := dk_182 1 76 (dk_at dksX3_bestMove_0 16 rfl rfl)
theorem dX3_bestMove_19 : decode cX3_bestMove 19 = .ok (.aload_n 0, 1) := dk_42 (dk_at dksX3_bestMove_0 19 rfl rfl)
theorem dX3_bestMove_20 : decode cX3_bestMove 20 = .ok (.invokevirtual 335, 3) := dk_182 1 79 (dk_at dksX3_bestMove_0 20 rfl rfl)
theorem dX3_bestMove_23 : decode cX3_bestMove 23 = .ok (.ireturn, 1) := dk_172 (dk_at dksX3_bestMove_0 23 rfl rfl)
/-- PackingDuelModel.bestMove()I -/
def zb230 (G : zPg) (C : zO) (args : List Value) (Q : zQ) (Y : zY) (σ : zS) : Prop := ∃ (a0 : Nat), args = [.ref a0] ∧ (zput σ G.1 (some a0) 4 5 (.int (0 : Int32)) (fun s1 => zrc s1 (some a0) 4 (fun a12 => zcl C 219 [.ref a12] Y s1 (zqI (fun v9 s10 => ((v9 = 0) → zrc s10 (some a0) 4 (fun a20 => zcl C 225 [.ref a20] Y s10 (zqV (fun s18 => zrc s18 (some a0) 4 (fun a27 => zcl C 231 [.ref a27] Y s18 (zqI (fun v24 s25 => Q (some (.int v24)) s25))))))) ∧ ((¬ v9 = 0) → Q (some (.int (-2 : Int32))) s10))))))
set_option maxHeartbeats 4000000 in
theorem wk230 {l : Launch} {g : zG} {d : Nat} {C : zO} (hG : zGk g) (hC : zSound l g d C) {args : List Value} {Q : zQ} {Y : zY} {σ : zS} (hw : zb230 (zpg g) C args Q Y σ) : zMet l g (d + 1) (⟨"PackingDuelModel", "bestMove", "()I"⟩, Cond.code ⟨"PackingDuelModel", "bestMove", "()I"⟩ prog_28_method_82_code 1 (Option.some FieldType.int)) args σ Q Y := by
  obtain ⟨a0, rfl, hw⟩ := hw
  refine zof hG (by decide +kernel) [false] ⟨rfl, trivial⟩ (Nat.le_of_ble_eq_true rfl) (ls := [some (va_rf (some a0))]) rfl ?_
  intro X hX hR hTb hd1 hd2 hl hg hnm
  subst hl
  subst hg
  have hd : zDep X d := ⟨hd1, hd2⟩
  refine z_aload_n hX dX3_bestMove_0 rfl (i := 0) rfl ?_
  refine z_iconst hX (v := (0 : Int32)) dX3_bestMove_1 (by decide) ?_
  obtain ⟨a3, f4, r5, g6, m7, l8, hw⟩ := hw
  refine z_put hX zc4 (k := 5) dX3_bestMove_2 (Nat.le_of_ble_eq_true rfl) (zlk hX q2474) rfl rfl rfl r5 g6 m7 l8 (z_nm (fun s1 e2 => ?_))
  have hw := hw s1 e2
  refine z_aload_n hX dX3_bestMove_5 rfl (i := 0) rfl ?_
  obtain ⟨a12, f13, r14, m15, hw⟩ := hw
  refine z_invV hX hd r14 (ci := 4) rfl rfl m15 dX3_bestMove_6 (hC 219 _ zm219 _ _ _ _ hw) q2841 q2843 qs83 zh7 q2844 q136 zn219 rfl (Nat.le_of_ble_eq_true rfl) (st := []) rfl (zcs8 (Nat.le_of_ble_eq_true rfl)) rfl (zkI (fun v9 s10 hw => ?_)) (zout hX hR hTb)
  refine z_if_eq hX dX3_bestMove_9 (tgt := 15) rfl (fun c16 => ?_) (fun c16 => ?_)
  · have hw := hw.1 c16
    refine z_aload_n hX dX3_bestMove_15 rfl (i := 0) rfl ?_
    obtain ⟨a20, f21, r22, m23, hw⟩ := hw
    refine z_invV hX hd r22 (ci := 4) rfl rfl m23 dX3_bestMove_16 (hC 225 _ zm225 _ _ _ _ hw) q2865 q2867 qs87 zh7 q2868 q136 zn225 rfl (Nat.le_of_ble_eq_true rfl) (st := []) rfl (zcs8 (Nat.le_of_ble_eq_true rfl)) rfl (zkV (fun s18 hw => ?_)) (zout hX hR hTb)
    refine z_aload_n hX dX3_bestMove_19 rfl (i := 0) rfl ?_
    obtain ⟨a27, f28, r29, m30, hw⟩ := hw
    refine z_invV hX hd r29 (ci := 4) rfl rfl m30 dX3_bestMove_20 (hC 231 _ zm231 _ _ _ _ hw) q2888 q2890 qs91 zh7 q2891 q136 zn231 rfl (Nat.le_of_ble_eq_true rfl) (st := []) rfl (zcs8 (Nat.le_of_ble_eq_true rfl)) rfl (zkI (fun v24 s25 hw => ?_)) (zout hX hR hTb)
    exact z_ireturn hX hR dX3_bestMove_23 rfl hw
  · have hw := hw.2 c16
    refine z_bipush hX (v := (-2 : Int32)) dX3_bestMove_12 (by decide) ?_
    exact z_ireturn hX hR dX3_bestMove_14 rfl hw
abbrev cX3_moveNow : ByteArray := prog_28_method_59_code
def yX3_moveNow : MethodName := ⟨RX3, "moveNow", "()I"⟩
def dkwX3_moveNow_3 : List UInt8 := [180, 0, 9, 16, 9, 46, 28, 182, 1, 10, 27, 160, 0, 5, 28, 172, 132, 2, 1, 167, 255, 197, 2, 172]
abbrev dktX3_moveNow_3 : List UInt8 := dkwX3_moveNow_3 ++ []
def dkwX3_moveNow_2 : List UInt8 := [16, 8, 46, 28, 182, 1, 14, 153, 0, 32, 42, 42, 182, 1, 23, 42, 180, 0, 9, 16, 8, 46, 42]
abbrev dktX3_moveNow_2 : List UInt8 := dkwX3_moveNow_2 ++ dktX3_moveNow_3
def dkwX3_moveNow_1 : List UInt8 := [184, 1, 4, 46, 60, 3, 61, 28, 42, 182, 0, 106, 162, 0, 57, 42, 42, 182, 1, 23, 42, 180, 0, 9]
abbrev dktX3_moveNow_1 : List UInt8 := dkwX3_moveNow_1 ++ dktX3_moveNow_2
def dkwX3_moveNow_0 : List UInt8 := [42, 180, 0, 56, 42, 182, 1, 23, 42, 180, 0, 9, 16, 8, 46, 42, 180, 0, 9, 16, 9, 46]
abbrev dktX3_moveNow_0 : List UInt8 := dkwX3_moveNow_0 ++ dktX3_moveNow_1
theorem dksX3_moveNow_0 : cX3_moveNow.data.toList.drop 0 = dktX3_moveNow_0 := by decide +kernel
theorem dksX3_moveNow_1 : cX3_moveNow.data.toList.drop 22 = dktX3_moveNow_1 := dk_seg dksX3_moveNow_0 22 rfl rfl
theorem dksX3_moveNow_2 : cX3_moveNow.data.toList.drop 46 = dktX3_moveNow_2 := dk_seg dksX3_moveNow_1 24 rfl rfl
theorem dksX3_moveNow_3 : cX3_moveNow.data.toList.drop 69 = dktX3_moveNow_3 := dk_seg dksX3_moveNow_2 23 rfl rfl
theorem dX3_moveNow_0 : decode cX3_moveNow 0 = .ok (.aload_n 0, 1) := dk_42 (dk_at dksX3_moveNow_0 0 rfl rfl)
theorem dX3_moveNow_1 : decode cX3_moveNow 1 = .ok (.getfield 56, 3) := dk_180 0 56 (dk_at dksX3_moveNow_0 1 rfl rfl)
theorem dX3_moveNow_4 : decode cX3_moveNow 4 = .ok (.aload_n 0, 1) := dk_42 (dk_at dksX3_moveNow_0 4 rfl rfl)
theorem dX3_moveNow_5 : decode cX3_moveNow 5 = .ok (.invokevirtual 279, 3) := dk_182 1 23 (dk_at dksX3_moveNow_0 5 rfl rfl)
theorem dX3_moveNow_8 : decode cX3_moveNow 8 = .ok (.aload_n 0, 1) := dk_42 (dk_at dksX3_moveNow_0 8 rfl rfl)
theorem dX3_moveNow_9 : decode cX3_moveNow 9 = .ok (.getfield 9, 3) := dk_180 0 9 (dk_at dksX3_moveNow_0 9 rfl rfl)
theorem dX3_moveNow_12 : decode cX3_moveNow 12 = .ok (.bipush 8, 2) := dk_16 8 (dk_at dksX3_moveNow_0 12 rfl rfl)
theorem dX3_moveNow_14 : decode cX3_moveNow 14 = .ok (.iaload, 1) := dk_46 (dk_at dksX3_moveNow_0 14 rfl rfl)
theorem dX3_moveNow_15 : decode cX3_moveNow 15 = .ok (.aload_n 0, 1) := dk_42 (dk_at dksX3_moveNow_0 15 rfl rfl)
theorem dX3_moveNow_16 : decode cX3_moveNow 16 = .ok (.getfield 9, 3) := dk_180 0 9 (dk_at dksX3_moveNow_0 16 rfl rfl)
theorem dX3_moveNow_19 : decode cX3_moveNow 19 = .ok (.bipush 9, 2) := dk_16 9 (dk_at dksX3_moveNow_0 19 rfl rfl)
theorem dX3_moveNow_21 : decode cX3_moveNow 21 = .ok (.iaload, 1) := dk_46 (dk_at dksX3_moveNow_0 21 rfl rfl)
theorem dX3_moveNow_22 : decode cX3_moveNow 22 = .ok (.invokestatic 260, 3) := dk_184 1 4 (dk_at dksX3_moveNow_1 0 rfl rfl)
theorem dX3_moveNow_25 : decode cX3_moveNow 25 = .ok (.iaload, 1) := dk_46 (dk_at dksX3_moveNow_1 3 rfl rfl)
theorem dX3_moveNow_26 : decode cX3_moveNow 26 = .ok (.istore_n 1, 1) := dk_60 (dk_at dksX3_moveNow_1 4 rfl rfl)
theorem dX3_moveNow_27 : decode cX3_moveNow 27 = .ok (.iconst 0, 1) := dk_3 (dk_at dksX3_moveNow_1 5 rfl rfl)
theorem dX3_moveNow_28 : decode cX3_moveNow 28 = .ok (.istore_n 2, 1) := dk_61 (dk_at dksX3_moveNow_1 6 rfl rfl)
theorem dX3_moveNow_29 : decode cX3_moveNow 29 = .ok (.iload_n 2, 1) := dk_28 (dk_at dksX3_moveNow_1 7 rfl rfl)
theorem dX3_moveNow_30 : decode cX3_moveNow 30 = .ok (.aload_n 0, 1) := dk_42 (dk_at dksX3_moveNow_1 8 rfl rfl)
theorem dX3_moveNow_31 : decode cX3_moveNow 31 = .ok (.invokevirtual 106, 3) := dk_182 0 106 (dk_at dksX3_moveNow_1 9 rfl rfl)
theorem dX3_moveNow_34 : decode cX3_moveNow 34 = .ok (.if_icmp .ge 57, 3) := dk_162 0 57 (dk_at dksX3_moveNow_1 12 rfl rfl)
theorem dX3_moveNow_37 : decode cX3_moveNow 37 = .ok (.aload_n 0, 1) := dk_42 (dk_at dksX3_moveNow_1 15 rfl rfl)
theorem dX3_moveNow_38 : decode cX3_moveNow 38 = .ok (.aload_n 0, 1) := dk_42 (dk_at dksX3_moveNow_1 16 rfl rfl)
theorem dX3_moveNow_39 : decode cX3_moveNow 39 = .ok (.invokevirtual 279, 3) := dk_182 1 23 (dk_at dksX3_moveNow_1 17 rfl rfl)
theorem dX3_moveNow_42 : decode cX3_moveNow 42 = .ok (.aload_n 0, 1) := dk_42 (dk_at dksX3_moveNow_1 20 rfl rfl)
theorem dX3_moveNow_43 : decode cX3_moveNow 43 = .ok (.getfield 9, 3) := dk_180 0 9 (dk_at dksX3_moveNow_1 21 rfl rfl)
theorem dX3_moveNow_46 : decode cX3_moveNow 46 = .ok (.bipush 8, 2) := dk_16 8 (dk_at dksX3_moveNow_2 0 rfl rfl)
theorem dX3_moveNow_48 : decode cX3_moveNow 48 = .ok (.iaload, 1) := dk_46 (dk_at dksX3_moveNow_2 2 rfl rfl)
theorem dX3_moveNow_49 : decode cX3_moveNow 49 = .ok (.iload_n 2, 1) := dk_28 (dk_at dksX3_moveNow_2 3 rfl rfl)
theorem dX3_moveNow_50 : decode cX3_moveNow 50 = .ok (.invokevirtual 270, 3) := dk_182 1 14 (dk_at dksX3_moveNow_2 4 rfl rfl)
theorem dX3_moveNow_53 : decode cX3_moveNow 53 = .ok (.ifCond .eq 32, 3) := dk_153 0 32 (dk_at dksX3_moveNow_2 7 rfl rfl)
theorem dX3_moveNow_56 : decode cX3_moveNow 56 = .ok (.aload_n 0, 1) := dk_42 (dk_at dksX3_moveNow_2 10 rfl rfl)
theorem dX3_moveNow_57 : decode cX3_moveNow 57 = .ok (.aload_n 0, 1) := dk_42 (dk_at dksX3_moveNow_2 11 rfl rfl)
theorem dX3_moveNow_58 : decode cX3_moveNow 58 = .ok (.invokevirtual 279, 3) := dk_182 1 23 (dk_at dksX3_moveNow_2 12 rfl rfl)
theorem dX3_moveNow_61 : decode cX3_moveNow 61 = .ok (.aload_n 0, 1) := dk_42 (dk_at dksX3_moveNow_2 15 rfl rfl)
theorem dX3_moveNow_62 : decode cX3_moveNow 62 = .ok (.getfield 9, 3) := dk_180 0 9 (dk_at dksX3_moveNow_2 16 rfl rfl)
theorem dX3_moveNow_65 : decode cX3_moveNow 65 = .ok (.bipush 8, 2) := dk_16 8 (dk_at dksX3_moveNow_2 19 rfl rfl)
theorem dX3_moveNow_67 : decode cX3_moveNow 67 = .ok (.iaload, 1) := dk_46 (dk_at dksX3_moveNow_2 21 rfl rfl)
theorem dX3_moveNow_68 : decode cX3_moveNow 68 = .ok (.aload_n 0, 1) := dk_42 (dk_at dksX3_moveNow_2 22 rfl rfl)
theorem dX3_moveNow_69 : decode cX3_moveNow 69 = .ok (.getfield 9, 3) := dk_180 0 9 (dk_at dksX3_moveNow_3 0 rfl rfl)
theorem dX3_moveNow_72 : decode cX3_moveNow 72 = .ok (.bipush 9, 2) := dk_16 9 (dk_at dksX3_moveNow_3 3 rfl rfl)
theorem dX3_moveNow_74 : decode cX3_moveNow 74 = .ok (.iaload, 1) := dk_46 (dk_at dksX3_moveNow_3 5 rfl rfl)
theorem dX3_moveNow_75 : decode cX3_moveNow 75 = .ok (.iload_n 2, 1) := dk_28 (dk_at dksX3_moveNow_3 6 rfl rfl)
theorem dX3_moveNow_76 : decode cX3_moveNow 76 = .ok (.invokevirtual 266, 3) := dk_182 1 10 (dk_at dksX3_moveNow_3 7 rfl rfl)
theorem dX3_moveNow_79 : decode cX3_moveNow 79 = .ok (.iload_n 1, 1) := dk_27 (dk_at dksX3_moveNow_3 10 rfl rfl)
theorem dX3_moveNow_80 : decode cX3_moveNow 80 = .ok (.if_icmp .ne 5, 3) := dk_160 0 5 (dk_at dksX3_moveNow_3 11 rfl rfl)
theorem dX3_moveNow_83 : decode cX3_moveNow 83 = .ok (.iload_n 2, 1) := dk_28 (dk_at dksX3_moveNow_3 14 rfl rfl)
theorem dX3_moveNow_84 : decode cX3_moveNow 84 = .ok (.ireturn, 1) := dk_172 (dk_at dksX3_moveNow_3 15 rfl rfl)
theorem dX3_moveNow_85 : decode cX3_moveNow 85 = .ok (.iinc 2 1, 3) := dk_132 2 1 (dk_at dksX3_moveNow_3 16 rfl rfl)
theorem dX3_moveNow_88 : decode cX3_moveNow 88 = .ok (.goto (-59), 3) := dk_167 255 197 (dk_at dksX3_moveNow_3 19 rfl rfl)
theorem dX3_moveNow_91 : decode cX3_moveNow 91 = .ok (.iconst (-1), 1) := dk_2 (dk_at dksX3_moveNow_3 22 rfl rfl)
theorem dX3_moveNow_92 : decode cX3_moveNow 92 = .ok (.ireturn, 1) := dk_172 (dk_at dksX3_moveNow_3 23 rfl rfl)
/-- PackingDuelModel.moveNow()I -/
def zb231 (G : zPg) (C : zO) (args : List Value) (Q : zQ) (Y : zY) (σ : zS) : Prop := ∃ (a0 : Nat), args = [.ref a0] ∧ (zgR σ (some a0) 4 24 (fun v1 => zrc σ (some a0) 4 (fun a10 => zcl C 216 [.ref a10] Y σ (zqI (fun v7 s8 => zgR s8 (some a0) 4 0 (fun v14 => zaI s8 0 v14 (8 : Int32) (fun v26 => zgR s8 (some a0) 4 0 (fun v28 => zaI s8 0 v28 (9 : Int32) (fun v40 => zcl C 226 [.int v7, .int v26, .int v40] Y s8 (zqI (fun v42 s43 => zaI s43 0 v1 v42 (fun v51 => ∃ n, zIt (fun _ _ => False) (fun rec55 (p53 : Int32) (s54 : zS) => zrc s54 (some a0) 4 (fun a59 => zcl C 159 [.ref a59] Y s54 (zqI (fun v56 s57 => ((v56 ≤ p53) → Q (some (.int (-1 : Int32))) s57) ∧ ((¬ v56 ≤ p53) → zrc s57 (some a0) 4 (fun a67 => zcl C 216 [.ref a67] Y s57 (zqI (fun v64 s65 => zgR s65 (some a0) 4 0 (fun v71 => zaI s65 0 v71 (8 : Int32) (fun v83 => zrc s65 (some a0) 4 (fun a88 => zcl C 223 [.ref a88, .int v64, .int v83, .int p53] Y s65 (zqI (fun v85 s86 => zJ (fun  (s92 : zS) => (∀ v94 : Int32, v94 = p53 + (1 : Int32) → rec55 v94 s92)) (fun (j93 : zS → Prop) => ((v85 = 0) → j93 s86) ∧ ((¬ v85 = 0) → zrc s86 (some a0) 4 (fun a100 => zcl C 216 [.ref a100] Y s86 (zqI (fun v97 s98 => zgR s98 (some a0) 4 0 (fun v104 => zaI s98 0 v104 (8 : Int32) (fun v116 => zgR s98 (some a0) 4 0 (fun v118 => zaI s98 0 v118 (9 : Int32) (fun v130 => zrc s98 (some a0) 4 (fun a135 => zcl C 228 [.ref a135, .int v97, .int v116, .int v130, .int p53] Y s98 (zqI (fun v132 s133 => ((¬ v132 = v51) → j93 s133) ∧ ((v132 = v51) → Q (some (.int p53)) s133)))))))))))))))))))))))))) n (0 : Int32) s43))))))))))))
set_option maxHeartbeats 4000000 in
theorem wk231 {l : Launch} {g : zG} {d : Nat} {C : zO} (hG : zGk g) (hC : zSound l g d C) {args : List Value} {Q : zQ} {Y : zY} {σ : zS} (hw : zb231 (zpg g) C args Q Y σ) : zMet l g (d + 1) (⟨"PackingDuelModel", "moveNow", "()I"⟩, Cond.code ⟨"PackingDuelModel", "moveNow", "()I"⟩ prog_28_method_59_code 3 (Option.some FieldType.int)) args σ Q Y := by
  obtain ⟨a0, rfl, hw⟩ := hw
  refine zof hG (by decide +kernel) [false] ⟨rfl, trivial⟩ (Nat.le_of_ble_eq_true rfl) (ls := [some (va_rf (some a0)), none, none]) rfl ?_
  intro X hX hR hTb hd1 hd2 hl hg hnm
  subst hl
  subst hg
  have hd : zDep X d := ⟨hd1, hd2⟩
  refine z_aload_n hX dX3_moveNow_0 rfl (i := 0) rfl ?_
  obtain ⟨a2, f3, v1, r4, m5, e6, hw⟩ := hw
  refine z_get hX zc4 (k := 24) dX3_moveNow_1 (Nat.le_of_ble_eq_true rfl) (zlk hX q2493) r4 m5 e6 ?_
  refine z_aload_n hX dX3_moveNow_4 rfl (i := 0) rfl ?_
  obtain ⟨a10, f11, r12, m13, hw⟩ := hw
  refine z_invV hX hd r12 (ci := 4) rfl rfl m13 dX3_moveNow_5 (hC 216 _ zm216 _ _ _ _ hw) q2829 q2831 qs80 zh7 q2832 q136 zn216 rfl (Nat.le_of_ble_eq_true rfl) (st := [va_rf v1]) rfl (zcs8 (Nat.le_of_ble_eq_true rfl)) rfl (zkI (fun v7 s8 hw => ?_)) (zout hX hR hTb)
  refine z_aload_n hX dX3_moveNow_8 rfl (i := 0) rfl ?_
  obtain ⟨a15, f16, v14, r17, m18, e19, hw⟩ := hw
  refine z_get hX zc4 (k := 0) dX3_moveNow_9 (Nat.le_of_ble_eq_true rfl) (zlk hX q2469) r17 m18 e19 ?_
  refine z_bipush hX (v := (8 : Int32)) dX3_moveNow_12 (by decide) ?_
  obtain ⟨a20, n21, f22, r23, m24, i25, hw⟩ := hw
  refine z_iald hX dX3_moveNow_14 r23 m24 i25 ?_
  revert hw
  generalize f22 (Int32.toNatClampNeg (8 : Int32)) = v26
  intro hw
  refine z_aload_n hX dX3_moveNow_15 rfl (i := 0) rfl ?_
  obtain ⟨a29, f30, v28, r31, m32, e33, hw⟩ := hw
  refine z_get hX zc4 (k := 0) dX3_moveNow_16 (Nat.le_of_ble_eq_true rfl) (zlk hX q2469) r31 m32 e33 ?_
  refine z_bipush hX (v := (9 : Int32)) dX3_moveNow_19 (by decide) ?_
  obtain ⟨a34, n35, f36, r37, m38, i39, hw⟩ := hw
  refine z_iald hX dX3_moveNow_21 r37 m38 i39 ?_
  revert hw
  generalize f36 (Int32.toNatClampNeg (9 : Int32)) = v40
  intro hw
  refine z_invS hX hd dX3_moveNow_22 (hC 226 _ zm226 _ _ _ _ hw) q2869 q2870 zh7 q2871 q136 zn226 rfl (Nat.le_of_ble_eq_true rfl) (st := [va_rf v1]) rfl (zcs8 (Nat.le_of_ble_eq_true rfl)) rfl (zkI (fun v42 s43 hw => ?_)) (zout hX hR hTb)
  obtain ⟨a45, n46, f47, r48, m49, i50, hw⟩ := hw
  refine z_iald hX dX3_moveNow_25 r48 m49 i50 ?_
  revert hw
  generalize f47 (Int32.toNatClampNeg v42) = v51
  intro hw
  refine z_istore_n hX dX3_moveNow_26 rfl (i := 1) (Nat.le_of_ble_eq_true rfl) (zc_rf _) (ls2 := [some (va_rf (some a0)), some (.int v51), none]) rfl ?_
  refine z_iconst hX (v := (0 : Int32)) dX3_moveNow_27 (by decide) ?_
  refine z_istore_n hX dX3_moveNow_28 rfl (i := 2) (Nat.le_of_ble_eq_true rfl) rfl (ls2 := [some (va_rf (some a0)), some (.int v51), some (.int (0 : Int32))]) rfl ?_
  obtain ⟨n140, hw⟩ := hw
  refine zIt_w (P := fun (j : Int32 → zS → Prop) => ∀ (p53 : Int32) (s54 : zS), j p53 s54 → zW X s54 29 [some (va_rf (some a0)), some (.int v51), some (.int p53)] []) (fun _ _ h => h.elim) (fun rec55 hrec55 p53 s54 hw => ?_) n140 _ _ hw
  refine z_iload_n hX dX3_moveNow_29 rfl (i := 2) rfl ?_
  refine z_aload_n hX dX3_moveNow_30 rfl (i := 0) rfl ?_
  obtain ⟨a59, f60, r61, m62, hw⟩ := hw
  refine z_invV hX hd r61 (ci := 4) rfl rfl m62 dX3_moveNow_31 (hC 159 _ zm159 _ _ _ _ hw) q2605 q2607 qs46 zh7 q2608 q136 zn159 rfl (Nat.le_of_ble_eq_true rfl) (st := [.int p53]) rfl (zcs8 (Nat.le_of_ble_eq_true rfl)) rfl (zkI (fun v56 s57 hw => ?_)) (zout hX hR hTb)
  refine z_icmp_ge hX dX3_moveNow_34 (tgt := 91) rfl (fun c63 => ?_) (fun c63 => ?_)
  · have hw := hw.1 c63
    refine z_iconst hX (v := (-1 : Int32)) dX3_moveNow_91 (by decide) ?_
    exact z_ireturn hX hR dX3_moveNow_92 rfl hw
  · have hw := hw.2 c63
    refine z_aload_n hX dX3_moveNow_37 rfl (i := 0) rfl ?_
    refine z_aload_n hX dX3_moveNow_38 rfl (i := 0) rfl ?_
    obtain ⟨a67, f68, r69, m70, hw⟩ := hw
    refine z_invV hX hd r69 (ci := 4) rfl rfl m70 dX3_moveNow_39 (hC 216 _ zm216 _ _ _ _ hw) q2829 q2831 qs80 zh7 q2832 q136 zn216 rfl (Nat.le_of_ble_eq_true rfl) (st := [va_rf (some a0)]) rfl (zcs8 (Nat.le_of_ble_eq_true rfl)) rfl (zkI (fun v64 s65 hw => ?_)) (zout hX hR hTb)
    refine z_aload_n hX dX3_moveNow_42 rfl (i := 0) rfl ?_
    obtain ⟨a72, f73, v71, r74, m75, e76, hw⟩ := hw
    refine z_get hX zc4 (k := 0) dX3_moveNow_43 (Nat.le_of_ble_eq_true rfl) (zlk hX q2469) r74 m75 e76 ?_
    refine z_bipush hX (v := (8 : Int32)) dX3_moveNow_46 (by decide) ?_
    obtain ⟨a77, n78, f79, r80, m81, i82, hw⟩ := hw
    refine z_iald hX dX3_moveNow_48 r80 m81 i82 ?_
    revert hw
    generalize f79 (Int32.toNatClampNeg (8 : Int32)) = v83
    intro hw
    refine z_iload_n hX dX3_moveNow_49 rfl (i := 2) rfl ?_
    obtain ⟨a88, f89, r90, m91, hw⟩ := hw
    refine z_invV hX hd r90 (ci := 4) rfl rfl m91 dX3_moveNow_50 (hC 223 _ zm223 _ _ _ _ hw) q2857 q2859 qs86 zh7 q2860 q136 zn223 rfl (Nat.le_of_ble_eq_true rfl) (st := []) rfl (zcs8 (Nat.le_of_ble_eq_true rfl)) rfl (zkI (fun v85 s86 hw => ?_)) (zout hX hR hTb)
    refine zJ_w (P := fun (j : zS → Prop) => ∀  (s92 : zS), j  s92 → zW X s92 85 [some (va_rf (some a0)), some (.int v51), some (.int p53)] []) hw (fun  s92 hw => ?_) (fun j93 hj93 hw => ?_)
    · obtain ⟨v94, e95⟩ : ∃ y : Int32, y = p53 + (1 : Int32) := ⟨_, rfl⟩
      refine z_iinc hX dX3_moveNow_85 (i := 2) (v := v94) rfl (by rw [e95]; rfl) (Nat.le_of_ble_eq_true rfl) rfl (ls2 := [some (va_rf (some a0)), some (.int v51), some (.int v94)]) rfl ?_
      have hw := hw v94 e95
      refine z_goto hX dX3_moveNow_88 (tgt := 29) rfl ?_
      exact hrec55 _ _ hw
    · refine z_if_eq hX dX3_moveNow_53 (tgt := 85) rfl (fun c96 => ?_) (fun c96 => ?_)
      · have hw := hw.1 c96
        exact hj93  _ hw
      · have hw := hw.2 c96
        refine z_aload_n hX dX3_moveNow_56 rfl (i := 0) rfl ?_
        refine z_aload_n hX dX3_moveNow_57 rfl (i := 0) rfl ?_
        obtain ⟨a100, f101, r102, m103, hw⟩ := hw
        refine z_invV hX hd r102 (ci := 4) rfl rfl m103 dX3_moveNow_58 (hC 216 _ zm216 _ _ _ _ hw) q2829 q2831 qs80 zh7 q2832 q136 zn216 rfl (Nat.le_of_ble_eq_true rfl) (st := [va_rf (some a0)]) rfl (zcs8 (Nat.le_of_ble_eq_true rfl)) rfl (zkI (fun v97 s98 hw => ?_)) (zout hX hR hTb)
        refine z_aload_n hX dX3_moveNow_61 rfl (i := 0) rfl ?_
        obtain ⟨a105, f106, v104, r107, m108, e109, hw⟩ := hw
        refine z_get hX zc4 (k := 0) dX3_moveNow_62 (Nat.le_of_ble_eq_true rfl) (zlk hX q2469) r107 m108 e109 ?_
        refine z_bipush hX (v := (8 : Int32)) dX3_moveNow_65 (by decide) ?_
        obtain ⟨a110, n111, f112, r113, m114, i115, hw⟩ := hw
        refine z_iald hX dX3_moveNow_67 r113 m114 i115 ?_
        revert hw
        generalize f112 (Int32.toNatClampNeg (8 : Int32)) = v116
        intro hw
        refine z_aload_n hX dX3_moveNow_68 rfl (i := 0) rfl ?_
        obtain ⟨a119, f120, v118, r121, m122, e123, hw⟩ := hw
        refine z_get hX zc4 (k := 0) dX3_moveNow_69 (Nat.le_of_ble_eq_true rfl) (zlk hX q2469) r121 m122 e123 ?_
        refine z_bipush hX (v := (9 : Int32)) dX3_moveNow_72 (by decide) ?_
        obtain ⟨a124, n125, f126, r127, m128, i129, hw⟩ := hw
        refine z_iald hX dX3_moveNow_74 r127 m128 i129 ?_
        revert hw
        generalize f126 (Int32.toNatClampNeg (9 : Int32)) = v130
        intro hw
        refine z_iload_n hX dX3_moveNow_75 rfl (i := 2) rfl ?_
        obtain ⟨a135, f136, r137, m138, hw⟩ := hw
        refine z_invV hX hd r137 (ci := 4) rfl rfl m138 dX3_moveNow_76 (hC 228 _ zm228 _ _ _ _ hw) q2876 q2878 qs89 zh7 q2879 q136 zn228 rfl (Nat.le_of_ble_eq_true rfl) (st := []) rfl (zcs8 (Nat.le_of_ble_eq_true rfl)) rfl (zkI (fun v132 s133 hw => ?_)) (zout hX hR hTb)
        refine z_iload_n hX dX3_moveNow_79 rfl (i := 1) rfl ?_
        refine z_icmp_ne hX dX3_moveNow_80 (tgt := 85) rfl (fun c139 => ?_) (fun c139 => ?_)
        · have hw := hw.1 c139
          exact hj93  _ hw
        · have hw := hw.2 c139
          refine z_iload_n hX dX3_moveNow_83 rfl (i := 2) rfl ?_
          exact z_ireturn hX hR dX3_moveNow_84 rfl hw
abbrev cX3_meanResult : ByteArray := prog_28_method_83_code
def yX3_meanResult : MethodName := ⟨RX3, "meanResult", "()D"⟩
def dkwX3_meanResult_2 : List UInt8 := [167, 255, 223, 27, 135, 42, 182, 1, 30, 135, 111, 175]
abbrev dktX3_meanResult_2 : List UInt8 := dkwX3_meanResult_2 ++ []
def dkwX3_meanResult_1 : List UInt8 := [42, 28, 182, 0, 136, 153, 0, 11, 42, 28, 182, 0, 147, 167, 0, 4, 3, 96, 60, 132, 2, 1]
abbrev dktX3_meanResult_1 : List UInt8 := dkwX3_meanResult_1 ++ dktX3_meanResult_2
def dkwX3_meanResult_0 : List UInt8 := [42, 3, 181, 0, 103, 42, 182, 1, 42, 3, 60, 3, 61, 28, 4, 42, 182, 0, 106, 120, 162, 0, 29, 27]
abbrev dktX3_meanResult_0 : List UInt8 := dkwX3_meanResult_0 ++ dktX3_meanResult_1
theorem dksX3_meanResult_0 : cX3_meanResult.data.toList.drop 0 = dktX3_meanResult_0 := by decide +kernel
theorem dksX3_meanResult_1 : cX3_meanResult.data.toList.drop 24 = dktX3_meanResult_1 := dk_seg dksX3_meanResult_0 24 rfl rfl
theorem dksX3_meanResult_2 : cX3_meanResult.data.toList.drop 46 = dktX3_meanResult_2 := dk_seg dksX3_meanResult_1 22 rfl rfl
theorem dX3_meanResult_0 : decode cX3_meanResult 0 = .ok (.aload_n 0, 1) := dk_42 (dk_at dksX3_meanResult_0 0 rfl rfl)
theorem dX3_meanResult_1 : decode cX3_meanResult 1 = .ok (.iconst 0, 1) := dk_3 (dk_at dksX3_meanResult_0 1 rfl rfl)
theorem dX3_meanResult_2 : decode cX3_meanResult 2 = .ok (.putfield 103, 3) := dk_181 0 103 (dk_at dksX3_meanResult_0 2 rfl rfl)
theorem dX3_meanResult_5 : decode cX3_meanResult 5 = .ok (.aload_n 0, 1) := dk_42 (dk_at dksX3_meanResult_0 5 rfl rfl)
theorem dX3_meanResult_6 : decode cX3_meanResult 6 = .ok (.invokevirtual 298, 3) := dk_182 1 42 (dk_at dksX3_meanResult_0 6 rfl rfl)
theorem dX3_meanResult_9 : decode cX3_meanResult 9 = .ok (.iconst 0, 1) := dk_3 (dk_at dksX3_meanResult_0 9 rfl rfl)
theorem dX3_meanResult_10 : decode cX3_meanResult 10 = .ok (.istore_n 1, 1) := dk_60 (dk_at dksX3_meanResult_0 10 rfl rfl)
theorem dX3_meanResult_11 : decode cX3_meanResult 11 = .ok (.iconst 0, 1) := dk_3 (dk_at dksX3_meanResult_0 11 rfl rfl)
theorem dX3_meanResult_12 : decode cX3_meanResult 12 = .ok (.istore_n 2, 1) := dk_61 (dk_at dksX3_meanResult_0 12 rfl rfl)
theorem dX3_meanResult_13 : decode cX3_meanResult 13 = .ok (.iload_n 2, 1) := dk_28 (dk_at dksX3_meanResult_0 13 rfl rfl)
theorem dX3_meanResult_14 : decode cX3_meanResult 14 = .ok (.iconst 1, 1) := dk_4 (dk_at dksX3_meanResult_0 14 rfl rfl)
theorem dX3_meanResult_15 : decode cX3_meanResult 15 = .ok (.aload_n 0, 1) := dk_42 (dk_at dksX3_meanResult_0 15 rfl rfl)
theorem dX3_meanResult_16 : decode cX3_meanResult 16 = .ok (.invokevirtual 106, 3) := dk_182 0 106 (dk_at dksX3_meanResult_0 16 rfl rfl)
theorem dX3_meanResult_19 : decode cX3_meanResult 19 = .ok (.ishl, 1) := dk_120 (dk_at dksX3_meanResult_0 19 rfl rfl)
theorem dX3_meanResult_20 : decode cX3_meanResult 20 = .ok (.if_icmp .ge 29, 3) := dk_162 0 29 (dk_at dksX3_meanResult_0 20 rfl rfl)
theorem dX3_meanResult_23 : decode cX3_meanResult 23 = .ok (.iload_n 1, 1) := dk_27 (dk_at dksX3_meanResult_0 23 rfl rfl)
theorem dX3_meanResult_24 : decode cX3_meanResult 24 = .ok (.aload_n 0, 1) := dk_42 (dk_at dksX3_meanResult_1 0 rfl rfl)
theorem dX3_meanResult_25 : decode cX3_meanResult 25 = .ok (.iload_n 2, 1) := dk_28 (dk_at dksX3_meanResult_1 1 rfl rfl)
theorem dX3_meanResult_26 : decode cX3_meanResult 26 = .ok (.invokevirtual 136, 3) := dk_182 0 136 (dk_at dksX3_meanResult_1 2 rfl rfl)
theorem dX3_meanResult_29 : decode cX3_meanResult 29 = .ok (.ifCond .eq 11, 3) := dk_153 0 11 (dk_at dksX3_meanResult_1 5 rfl rfl)
theorem dX3_meanResult_32 : decode cX3_meanResult 32 = .ok (.aload_n 0, 1) := dk_42 (dk_at dksX3_meanResult_1 8 rfl rfl)
theorem dX3_meanResult_33 : decode cX3_meanResult 33 = .ok (.iload_n 2, 1) := dk_28 (dk_at dksX3_meanResult_1 9 rfl rfl)
theorem dX3_meanResult_34 : decode cX3_meanResult 34 = .ok (.invokevirtual 147, 3) := dk_182 0 147 (dk_at dksX3_meanResult_1 10 rfl rfl)
theorem dX3_meanResult_37 : decode cX3_meanResult 37 = .ok (.goto 4, 3) := dk_167 0 4 (dk_at dksX3_meanResult_1 13 rfl rfl)
theorem dX3_meanResult_40 : decode cX3_meanResult 40 = .ok (.iconst 0, 1) := dk_3 (dk_at dksX3_meanResult_1 16 rfl rfl)
theorem dX3_meanResult_41 : decode cX3_meanResult 41 = .ok (.iadd, 1) := dk_96 (dk_at dksX3_meanResult_1 17 rfl rfl)
theorem dX3_meanResult_42 : decode cX3_meanResult 42 = .ok (.istore_n 1, 1) := dk_60 (dk_at dksX3_meanResult_1 18 rfl rfl)
theorem dX3_meanResult_43 : decode cX3_meanResult 43 = .ok (.iinc 2 1, 3) := dk_132 2 1 (dk_at dksX3_meanResult_1 19 rfl rfl)
theorem dX3_meanResult_46 : decode cX3_meanResult 46 = .ok (.goto (-33), 3) := dk_167 255 223 (dk_at dksX3_meanResult_2 0 rfl rfl)
theorem dX3_meanResult_49 : decode cX3_meanResult 49 = .ok (.iload_n 1, 1) := dk_27 (dk_at dksX3_meanResult_2 3 rfl rfl)
theorem dX3_meanResult_50 : decode cX3_meanResult 50 = .ok (.i2d, 1) := dk_135 (dk_at dksX3_meanResult_2 4 rfl rfl)
theorem dX3_meanResult_51 : decode cX3_meanResult 51 = .ok (.aload_n 0, 1) := dk_42 (dk_at dksX3_meanResult_2 5 rfl rfl)
theorem dX3_meanResult_52 : decode cX3_meanResult 52 = .ok (.invokevirtual 286, 3) := dk_182 1 30 (dk_at dksX3_meanResult_2 6 rfl rfl)
theorem dX3_meanResult_55 : decode cX3_meanResult 55 = .ok (.i2d, 1) := dk_135 (dk_at dksX3_meanResult_2 9 rfl rfl)
theorem dX3_meanResult_56 : decode cX3_meanResult 56 = .ok (.ddiv, 1) := dk_111 (dk_at dksX3_meanResult_2 10 rfl rfl)
theorem dX3_meanResult_57 : decode cX3_meanResult 57 = .ok (.dreturn, 1) := dk_175 (dk_at dksX3_meanResult_2 11 rfl rfl)
/-- PackingDuelModel.meanResult()D -/
def zb232 (G : zPg) (C : zO) (args : List Value) (Q : zQ) (Y : zY) (σ : zS) : Prop := ∃ (a0 : Nat), args = [.ref a0] ∧ (zput σ G.1 (some a0) 4 5 (.int (0 : Int32)) (fun s1 => zrc s1 (some a0) 4 (fun a12 => zcl C 177 [.ref a12] Y s1 (zqV (fun s10 => ∃ n, zIt (fun _ _ _ => False) (fun rec19 (p16 : Int32) (p17 : Int32) (s18 : zS) => zrc s18 (some a0) 4 (fun a23 => zcl C 159 [.ref a23] Y s18 (zqI (fun v20 s21 => ((((1 : Int32) <<< (v20 &&& 31)) ≤ p17) → zrc s21 (some a0) 4 (fun a31 => zcl C 158 [.ref a31] Y s21 (zqI (fun v28 s29 => (vf_n64 (FP.ddiv (FP.i2d p16) (FP.i2d v28)) ∧ Q (some (.double (FP.ddiv (FP.i2d p16) (FP.i2d v28)))) s29))))) ∧ ((¬ ((1 : Int32) <<< (v20 &&& 31)) ≤ p17) → zrc s21 (some a0) 4 (fun a38 => zcl C 179 [.ref a38, .int p17] Y s21 (zqI (fun v35 s36 => zJ (fun (p42 : Int32) (s43 : zS) => (∀ v45 : Int32, v45 = p17 + (1 : Int32) → rec19 (p16 + p42) v45 s43)) (fun (j44 : Int32 → zS → Prop) => ((v35 = 0) → j44 (0 : Int32) s36) ∧ ((¬ v35 = 0) → zrc s36 (some a0) 4 (fun a51 => zcl C 181 [.ref a51, .int p17] Y s36 (zqI (fun v48 s49 => j44 v48 s49))))))))))))) n (0 : Int32) (0 : Int32) s10)))))
set_option maxHeartbeats 4000000 in
theorem wk232 {l : Launch} {g : zG} {d : Nat} {C : zO} (hG : zGk g) (hC : zSound l g d C) {args : List Value} {Q : zQ} {Y : zY} {σ : zS} (hw : zb232 (zpg g) C args Q Y σ) : zMet l g (d + 1) (⟨"PackingDuelModel", "meanResult", "()D"⟩, Cond.code ⟨"PackingDuelModel", "meanResult", "()D"⟩ prog_28_method_83_code 3 (Option.some FieldType.double)) args σ Q Y := by
  obtain ⟨a0, rfl, hw⟩ := hw
  refine zof hG (by decide +kernel) [false] ⟨rfl, trivial⟩ (Nat.le_of_ble_eq_true rfl) (ls := [some (va_rf (some a0)), none, none]) rfl ?_
  intro X hX hR hTb hd1 hd2 hl hg hnm
  subst hl
  subst hg
  have hd : zDep X d := ⟨hd1, hd2⟩
  refine z_aload_n hX dX3_meanResult_0 rfl (i := 0) rfl ?_
  refine z_iconst hX (v := (0 : Int32)) dX3_meanResult_1 (by decide) ?_
  obtain ⟨a3, f4, r5, g6, m7, l8, hw⟩ := hw
  refine z_put hX zc4 (k := 5) dX3_meanResult_2 (Nat.le_of_ble_eq_true rfl) (zlk hX q2474) rfl rfl rfl r5 g6 m7 l8 (z_nm (fun s1 e2 => ?_))
  have hw := hw s1 e2
  refine z_aload_n hX dX3_meanResult_5 rfl (i := 0) rfl ?_
  obtain ⟨a12, f13, r14, m15, hw⟩ := hw
  refine z_invV hX hd r14 (ci := 4) rfl rfl m15 dX3_meanResult_6 (hC 177 _ zm177 _ _ _ _ hw) q2675 q2677 qs57 zh7 q2678 q136 zn177 rfl (Nat.le_of_ble_eq_true rfl) (st := []) rfl (zcs8 (Nat.le_of_ble_eq_true rfl)) rfl (zkV (fun s10 hw => ?_)) (zout hX hR hTb)
  refine z_iconst hX (v := (0 : Int32)) dX3_meanResult_9 (by decide) ?_
  refine z_istore_n hX dX3_meanResult_10 rfl (i := 1) (Nat.le_of_ble_eq_true rfl) (zc_rf _) (ls2 := [some (va_rf (some a0)), some (.int (0 : Int32)), none]) rfl ?_
  refine z_iconst hX (v := (0 : Int32)) dX3_meanResult_11 (by decide) ?_
  refine z_istore_n hX dX3_meanResult_12 rfl (i := 2) (Nat.le_of_ble_eq_true rfl) rfl (ls2 := [some (va_rf (some a0)), some (.int (0 : Int32)), some (.int (0 : Int32))]) rfl ?_
  obtain ⟨n55, hw⟩ := hw
  refine zIt_w (P := fun (j : Int32 → Int32 → zS → Prop) => ∀ (p16 : Int32) (p17 : Int32) (s18 : zS), j p16 p17 s18 → zW X s18 13 [some (va_rf (some a0)), some (.int p16), some (.int p17)] []) (fun _ _ _ h => h.elim) (fun rec19 hrec19 p16 p17 s18 hw => ?_) n55 _ _ _ hw
  refine z_iload_n hX dX3_meanResult_13 rfl (i := 2) rfl ?_
  refine z_iconst hX (v := (1 : Int32)) dX3_meanResult_14 (by decide) ?_
  refine z_aload_n hX dX3_meanResult_15 rfl (i := 0) rfl ?_
  obtain ⟨a23, f24, r25, m26, hw⟩ := hw
  refine z_invV hX hd r25 (ci := 4) rfl rfl m26 dX3_meanResult_16 (hC 159 _ zm159 _ _ _ _ hw) q2605 q2607 qs46 zh7 q2608 q136 zn159 rfl (Nat.le_of_ble_eq_true rfl) (st := [.int (1 : Int32), .int p17]) rfl (zcs8 (Nat.le_of_ble_eq_true rfl)) rfl (zkI (fun v20 s21 hw => ?_)) (zout hX hR hTb)
  refine z_ishl hX dX3_meanResult_19 ?_
  refine z_icmp_ge hX dX3_meanResult_20 (tgt := 49) rfl (fun c27 => ?_) (fun c27 => ?_)
  · have hw := hw.1 c27
    refine z_iload_n hX dX3_meanResult_49 rfl (i := 1) rfl ?_
    refine z_i2d hX dX3_meanResult_50 ?_
    refine z_aload_n hX dX3_meanResult_51 rfl (i := 0) rfl ?_
    obtain ⟨a31, f32, r33, m34, hw⟩ := hw
    refine z_invV hX hd r33 (ci := 4) rfl rfl m34 dX3_meanResult_52 (hC 158 _ zm158 _ _ _ _ hw) q2601 q2603 qs45 zh7 q2604 q136 zn158 rfl (Nat.le_of_ble_eq_true rfl) (st := [.double (FP.i2d p16)]) rfl (zcs8 (Nat.le_of_ble_eq_true rfl)) rfl (zkI (fun v28 s29 hw => ?_)) (zout hX hR hTb)
    refine z_i2d hX dX3_meanResult_55 ?_
    refine z_ddiv hX dX3_meanResult_56 hw.1 ?_
    have hw := hw.2
    exact z_dreturn hX hR dX3_meanResult_57 hw
  · have hw := hw.2 c27
    refine z_iload_n hX dX3_meanResult_23 rfl (i := 1) rfl ?_
    refine z_aload_n hX dX3_meanResult_24 rfl (i := 0) rfl ?_
    refine z_iload_n hX dX3_meanResult_25 rfl (i := 2) rfl ?_
    obtain ⟨a38, f39, r40, m41, hw⟩ := hw
    refine z_invV hX hd r40 (ci := 4) rfl rfl m41 dX3_meanResult_26 (hC 179 _ zm179 _ _ _ _ hw) q2683 q2685 qs59 zh7 q2686 q136 zn179 rfl (Nat.le_of_ble_eq_true rfl) (st := [.int p16]) rfl (zcs8 (Nat.le_of_ble_eq_true rfl)) rfl (zkI (fun v35 s36 hw => ?_)) (zout hX hR hTb)
    refine zJ_w (P := fun (j : Int32 → zS → Prop) => ∀ (p42 : Int32) (s43 : zS), j p42 s43 → zW X s43 41 [some (va_rf (some a0)), none, some (.int p17)] [.int p42, .int p16]) hw (fun p42 s43 hw => ?_) (fun j44 hj44 hw => ?_)
    · refine z_iadd hX dX3_meanResult_41 ?_
      refine z_istore_n hX dX3_meanResult_42 rfl (i := 1) (Nat.le_of_ble_eq_true rfl) (zc_rf _) (ls2 := [some (va_rf (some a0)), some (.int (p16 + p42)), some (.int p17)]) rfl ?_
      obtain ⟨v45, e46⟩ : ∃ y : Int32, y = p17 + (1 : Int32) := ⟨_, rfl⟩
      refine z_iinc hX dX3_meanResult_43 (i := 2) (v := v45) rfl (by rw [e46]; rfl) (Nat.le_of_ble_eq_true rfl) rfl (ls2 := [some (va_rf (some a0)), some (.int (p16 + p42)), some (.int v45)]) rfl ?_
      have hw := hw v45 e46
      refine z_goto hX dX3_meanResult_46 (tgt := 13) rfl ?_
      exact hrec19 _ _ _ hw
    · refine z_if_eq hX dX3_meanResult_29 (tgt := 40) rfl (fun c47 => ?_) (fun c47 => ?_)
      · have hw := hw.1 c47
        refine z_iconst hX (v := (0 : Int32)) dX3_meanResult_40 (by decide) ?_
        refine z_sub (ls' := [some (va_rf (some a0)), none, some (.int p17)]) (zsS (zsN (zsS (zs0)))) ?_
        exact hj44 _ _ hw
      · have hw := hw.2 c47
        refine z_aload_n hX dX3_meanResult_32 rfl (i := 0) rfl ?_
        refine z_iload_n hX dX3_meanResult_33 rfl (i := 2) rfl ?_
        obtain ⟨a51, f52, r53, m54, hw⟩ := hw
        refine z_invV hX hd r53 (ci := 4) rfl rfl m54 dX3_meanResult_34 (hC 181 _ zm181 _ _ _ _ hw) q2691 q2693 qs61 zh7 q2694 q136 zn181 rfl (Nat.le_of_ble_eq_true rfl) (st := [.int p16]) rfl (zcs8 (Nat.le_of_ble_eq_true rfl)) rfl (zkI (fun v48 s49 hw => ?_)) (zout hX hR hTb)
        refine z_goto hX dX3_meanResult_37 (tgt := 41) rfl ?_
        refine z_sub (ls' := [some (va_rf (some a0)), none, some (.int p17)]) (zsS (zsN (zsS (zs0)))) ?_
        exact hj44 _ _ hw
abbrev cX3_safeShare : ByteArray := prog_28_method_84_code
def yX3_safeShare : MethodName := ⟨RX3, "safeShare", "()F"⟩
def dkwX3_safeShare_2 : List UInt8 := [132, 2, 1, 167, 255, 218, 27, 134, 42, 182, 1, 30, 134, 110, 174]
abbrev dktX3_safeShare_2 : List UInt8 := dkwX3_safeShare_2 ++ []
def dkwX3_safeShare_1 : List UInt8 := [42, 28, 182, 0, 136, 153, 0, 16, 42, 180, 0, 34, 28, 46, 154, 0, 7, 4, 167, 0, 4, 3, 96, 60]
abbrev dktX3_safeShare_1 : List UInt8 := dkwX3_safeShare_1 ++ dktX3_safeShare_2
def dkwX3_safeShare_0 : List UInt8 := [42, 3, 181, 0, 103, 42, 182, 1, 42, 3, 60, 3, 61, 28, 4, 42, 182, 0, 106, 120, 162, 0, 34, 27]
abbrev dktX3_safeShare_0 : List UInt8 := dkwX3_safeShare_0 ++ dktX3_safeShare_1
theorem dksX3_safeShare_0 : cX3_safeShare.data.toList.drop 0 = dktX3_safeShare_0 := by decide +kernel
theorem dksX3_safeShare_1 : cX3_safeShare.data.toList.drop 24 = dktX3_safeShare_1 := dk_seg dksX3_safeShare_0 24 rfl rfl
theorem dksX3_safeShare_2 : cX3_safeShare.data.toList.drop 48 = dktX3_safeShare_2 := dk_seg dksX3_safeShare_1 24 rfl rfl
theorem dX3_safeShare_0 : decode cX3_safeShare 0 = .ok (.aload_n 0, 1) := dk_42 (dk_at dksX3_safeShare_0 0 rfl rfl)
theorem dX3_safeShare_1 : decode cX3_safeShare 1 = .ok (.iconst 0, 1) := dk_3 (dk_at dksX3_safeShare_0 1 rfl rfl)
theorem dX3_safeShare_2 : decode cX3_safeShare 2 = .ok (.putfield 103, 3) := dk_181 0 103 (dk_at dksX3_safeShare_0 2 rfl rfl)
theorem dX3_safeShare_5 : decode cX3_safeShare 5 = .ok (.aload_n 0, 1) := dk_42 (dk_at dksX3_safeShare_0 5 rfl rfl)
theorem dX3_safeShare_6 : decode cX3_safeShare 6 = .ok (.invokevirtual 298, 3) := dk_182 1 42 (dk_at dksX3_safeShare_0 6 rfl rfl)
theorem dX3_safeShare_9 : decode cX3_safeShare 9 = .ok (.iconst 0, 1) := dk_3 (dk_at dksX3_safeShare_0 9 rfl rfl)
theorem dX3_safeShare_10 : decode cX3_safeShare 10 = .ok (.istore_n 1, 1) := dk_60 (dk_at dksX3_safeShare_0 10 rfl rfl)
theorem dX3_safeShare_11 : decode cX3_safeShare 11 = .ok (.iconst 0, 1) := dk_3 (dk_at dksX3_safeShare_0 11 rfl rfl)
theorem dX3_safeShare_12 : decode cX3_safeShare 12 = .ok (.istore_n 2, 1) := dk_61 (dk_at dksX3_safeShare_0 12 rfl rfl)
theorem dX3_safeShare_13 : decode cX3_safeShare 13 = .ok (.iload_n 2, 1) := dk_28 (dk_at dksX3_safeShare_0 13 rfl rfl)
theorem dX3_safeShare_14 : decode cX3_safeShare 14 = .ok (.iconst 1, 1) := dk_4 (dk_at dksX3_safeShare_0 14 rfl rfl)
theorem dX3_safeShare_15 : decode cX3_safeShare 15 = .ok (.aload_n 0, 1) := dk_42 (dk_at dksX3_safeShare_0 15 rfl rfl)
theorem dX3_safeShare_16 : decode cX3_safeShare 16 = .ok (.invokevirtual 106, 3) := dk_182 0 106 (dk_at dksX3_safeShare_0 16 rfl rfl)
theorem dX3_safeShare_19 : decode cX3_safeShare 19 = .ok (.ishl, 1) := dk_120 (dk_at dksX3_safeShare_0 19 rfl rfl)
theorem dX3_safeShare_20 : decode cX3_safeShare 20 = .ok (.if_icmp .ge 34, 3) := dk_162 0 34 (dk_at dksX3_safeShare_0 20 rfl rfl)
theorem dX3_safeShare_23 : decode cX3_safeShare 23 = .ok (.iload_n 1, 1) := dk_27 (dk_at dksX3_safeShare_0 23 rfl rfl)
theorem dX3_safeShare_24 : decode cX3_safeShare 24 = .ok (.aload_n 0, 1) := dk_42 (dk_at dksX3_safeShare_1 0 rfl rfl)
theorem dX3_safeShare_25 : decode cX3_safeShare 25 = .ok (.iload_n 2, 1) := dk_28 (dk_at dksX3_safeShare_1 1 rfl rfl)
theorem dX3_safeShare_26 : decode cX3_safeShare 26 = .ok (.invokevirtual 136, 3) := dk_182 0 136 (dk_at dksX3_safeShare_1 2 rfl rfl)
theorem dX3_safeShare_29 : decode cX3_safeShare 29 = .ok (.ifCond .eq 16, 3) := dk_153 0 16 (dk_at dksX3_safeShare_1 5 rfl rfl)
theorem dX3_safeShare_32 : decode cX3_safeShare 32 = .ok (.aload_n 0, 1) := dk_42 (dk_at dksX3_safeShare_1 8 rfl rfl)
theorem dX3_safeShare_33 : decode cX3_safeShare 33 = .ok (.getfield 34, 3) := dk_180 0 34 (dk_at dksX3_safeShare_1 9 rfl rfl)
theorem dX3_safeShare_36 : decode cX3_safeShare 36 = .ok (.iload_n 2, 1) := dk_28 (dk_at dksX3_safeShare_1 12 rfl rfl)
theorem dX3_safeShare_37 : decode cX3_safeShare 37 = .ok (.iaload, 1) := dk_46 (dk_at dksX3_safeShare_1 13 rfl rfl)
theorem dX3_safeShare_38 : decode cX3_safeShare 38 = .ok (.ifCond .ne 7, 3) := dk_154 0 7 (dk_at dksX3_safeShare_1 14 rfl rfl)
theorem dX3_safeShare_41 : decode cX3_safeShare 41 = .ok (.iconst 1, 1) := dk_4 (dk_at dksX3_safeShare_1 17 rfl rfl)
theorem dX3_safeShare_42 : decode cX3_safeShare 42 = .ok (.goto 4, 3) := dk_167 0 4 (dk_at dksX3_safeShare_1 18 rfl rfl)
theorem dX3_safeShare_45 : decode cX3_safeShare 45 = .ok (.iconst 0, 1) := dk_3 (dk_at dksX3_safeShare_1 21 rfl rfl)
theorem dX3_safeShare_46 : decode cX3_safeShare 46 = .ok (.iadd, 1) := dk_96 (dk_at dksX3_safeShare_1 22 rfl rfl)
theorem dX3_safeShare_47 : decode cX3_safeShare 47 = .ok (.istore_n 1, 1) := dk_60 (dk_at dksX3_safeShare_1 23 rfl rfl)
theorem dX3_safeShare_48 : decode cX3_safeShare 48 = .ok (.iinc 2 1, 3) := dk_132 2 1 (dk_at dksX3_safeShare_2 0 rfl rfl)
theorem dX3_safeShare_51 : decode cX3_safeShare 51 = .ok (.goto (-38), 3) := dk_167 255 218 (dk_at dksX3_safeShare_2 3 rfl rfl)
theorem dX3_safeShare_54 : decode cX3_safeShare 54 = .ok (.iload_n 1, 1) := dk_27 (dk_at dksX3_safeShare_2 6 rfl rfl)
theorem dX3_safeShare_55 : decode cX3_safeShare 55 = .ok (.i2f, 1) := dk_134 (dk_at dksX3_safeShare_2 7 rfl rfl)
theorem dX3_safeShare_56 : decode cX3_safeShare 56 = .ok (.aload_n 0, 1) := dk_42 (dk_at dksX3_safeShare_2 8 rfl rfl)
theorem dX3_safeShare_57 : decode cX3_safeShare 57 = .ok (.invokevirtual 286, 3) := dk_182 1 30 (dk_at dksX3_safeShare_2 9 rfl rfl)
theorem dX3_safeShare_60 : decode cX3_safeShare 60 = .ok (.i2f, 1) := dk_134 (dk_at dksX3_safeShare_2 12 rfl rfl)
theorem dX3_safeShare_61 : decode cX3_safeShare 61 = .ok (.fdiv, 1) := dk_110 (dk_at dksX3_safeShare_2 13 rfl rfl)
theorem dX3_safeShare_62 : decode cX3_safeShare 62 = .ok (.freturn, 1) := dk_174 (dk_at dksX3_safeShare_2 14 rfl rfl)
/-- PackingDuelModel.safeShare()F -/
def zb233 (G : zPg) (C : zO) (args : List Value) (Q : zQ) (Y : zY) (σ : zS) : Prop := ∃ (a0 : Nat), args = [.ref a0] ∧ (zput σ G.1 (some a0) 4 5 (.int (0 : Int32)) (fun s1 => zrc s1 (some a0) 4 (fun a12 => zcl C 177 [.ref a12] Y s1 (zqV (fun s10 => ∃ n, zIt (fun _ _ _ => False) (fun rec19 (p16 : Int32) (p17 : Int32) (s18 : zS) => zrc s18 (some a0) 4 (fun a23 => zcl C 159 [.ref a23] Y s18 (zqI (fun v20 s21 => ((((1 : Int32) <<< (v20 &&& 31)) ≤ p17) → zrc s21 (some a0) 4 (fun a31 => zcl C 158 [.ref a31] Y s21 (zqI (fun v28 s29 => (vf_n32 (FP.fdiv (FP.i2f p16) (FP.i2f v28)) ∧ Q (some (.float (FP.fdiv (FP.i2f p16) (FP.i2f v28)))) s29))))) ∧ ((¬ ((1 : Int32) <<< (v20 &&& 31)) ≤ p17) → zrc s21 (some a0) 4 (fun a38 => zcl C 179 [.ref a38, .int p17] Y s21 (zqI (fun v35 s36 => zJ (fun (p42 : Int32) (s43 : zS) => (∀ v45 : Int32, v45 = p17 + (1 : Int32) → rec19 (p16 + p42) v45 s43)) (fun (j44 : Int32 → zS → Prop) => zJ (fun  (s47 : zS) => j44 (0 : Int32) s47) (fun (j48 : zS → Prop) => ((v35 = 0) → j48 s36) ∧ ((¬ v35 = 0) → zgR s36 (some a0) 4 11 (fun v50 => zaI s36 0 v50 p17 (fun v62 => ((¬ v62 = 0) → j48 s36) ∧ ((v62 = 0) → j44 (1 : Int32) s36)))))))))))))) n (0 : Int32) (0 : Int32) s10)))))
set_option maxHeartbeats 4000000 in
theorem wk233 {l : Launch} {g : zG} {d : Nat} {C : zO} (hG : zGk g) (hC : zSound l g d C) {args : List Value} {Q : zQ} {Y : zY} {σ : zS} (hw : zb233 (zpg g) C args Q Y σ) : zMet l g (d + 1) (⟨"PackingDuelModel", "safeShare", "()F"⟩, Cond.code ⟨"PackingDuelModel", "safeShare", "()F"⟩ prog_28_method_84_code 3 (Option.some FieldType.float)) args σ Q Y := by
  obtain ⟨a0, rfl, hw⟩ := hw
  refine zof hG (by decide +kernel) [false] ⟨rfl, trivial⟩ (Nat.le_of_ble_eq_true rfl) (ls := [some (va_rf (some a0)), none, none]) rfl ?_
  intro X hX hR hTb hd1 hd2 hl hg hnm
  subst hl
  subst hg
  have hd : zDep X d := ⟨hd1, hd2⟩
  refine z_aload_n hX dX3_safeShare_0 rfl (i := 0) rfl ?_
  refine z_iconst hX (v := (0 : Int32)) dX3_safeShare_1 (by decide) ?_
  obtain ⟨a3, f4, r5, g6, m7, l8, hw⟩ := hw
  refine z_put hX zc4 (k := 5) dX3_safeShare_2 (Nat.le_of_ble_eq_true rfl) (zlk hX q2474) rfl rfl rfl r5 g6 m7 l8 (z_nm (fun s1 e2 => ?_))
  have hw := hw s1 e2
  refine z_aload_n hX dX3_safeShare_5 rfl (i := 0) rfl ?_
  obtain ⟨a12, f13, r14, m15, hw⟩ := hw
  refine z_invV hX hd r14 (ci := 4) rfl rfl m15 dX3_safeShare_6 (hC 177 _ zm177 _ _ _ _ hw) q2675 q2677 qs57 zh7 q2678 q136 zn177 rfl (Nat.le_of_ble_eq_true rfl) (st := []) rfl (zcs8 (Nat.le_of_ble_eq_true rfl)) rfl (zkV (fun s10 hw => ?_)) (zout hX hR hTb)
  refine z_iconst hX (v := (0 : Int32)) dX3_safeShare_9 (by decide) ?_
  refine z_istore_n hX dX3_safeShare_10 rfl (i := 1) (Nat.le_of_ble_eq_true rfl) (zc_rf _) (ls2 := [some (va_rf (some a0)), some (.int (0 : Int32)), none]) rfl ?_
  refine z_iconst hX (v := (0 : Int32)) dX3_safeShare_11 (by decide) ?_
  refine z_istore_n hX dX3_safeShare_12 rfl (i := 2) (Nat.le_of_ble_eq_true rfl) rfl (ls2 := [some (va_rf (some a0)), some (.int (0 : Int32)), some (.int (0 : Int32))]) rfl ?_
  obtain ⟨n65, hw⟩ := hw
  refine zIt_w (P := fun (j : Int32 → Int32 → zS → Prop) => ∀ (p16 : Int32) (p17 : Int32) (s18 : zS), j p16 p17 s18 → zW X s18 13 [some (va_rf (some a0)), some (.int p16), some (.int p17)] []) (fun _ _ _ h => h.elim) (fun rec19 hrec19 p16 p17 s18 hw => ?_) n65 _ _ _ hw
  refine z_iload_n hX dX3_safeShare_13 rfl (i := 2) rfl ?_
  refine z_iconst hX (v := (1 : Int32)) dX3_safeShare_14 (by decide) ?_
  refine z_aload_n hX dX3_safeShare_15 rfl (i := 0) rfl ?_
  obtain ⟨a23, f24, r25, m26, hw⟩ := hw
  refine z_invV hX hd r25 (ci := 4) rfl rfl m26 dX3_safeShare_16 (hC 159 _ zm159 _ _ _ _ hw) q2605 q2607 qs46 zh7 q2608 q136 zn159 rfl (Nat.le_of_ble_eq_true rfl) (st := [.int (1 : Int32), .int p17]) rfl (zcs8 (Nat.le_of_ble_eq_true rfl)) rfl (zkI (fun v20 s21 hw => ?_)) (zout hX hR hTb)
  refine z_ishl hX dX3_safeShare_19 ?_
  refine z_icmp_ge hX dX3_safeShare_20 (tgt := 54) rfl (fun c27 => ?_) (fun c27 => ?_)
  · have hw := hw.1 c27
    refine z_iload_n hX dX3_safeShare_54 rfl (i := 1) rfl ?_
    refine z_i2f hX dX3_safeShare_55 ?_
    refine z_aload_n hX dX3_safeShare_56 rfl (i := 0) rfl ?_
    obtain ⟨a31, f32, r33, m34, hw⟩ := hw
    refine z_invV hX hd r33 (ci := 4) rfl rfl m34 dX3_safeShare_57 (hC 158 _ zm158 _ _ _ _ hw) q2601 q2603 qs45 zh7 q2604 q136 zn158 rfl (Nat.le_of_ble_eq_true rfl) (st := [.float (FP.i2f p16)]) rfl (zcs8 (Nat.le_of_ble_eq_true rfl)) rfl (zkI (fun v28 s29 hw => ?_)) (zout hX hR hTb)
    refine z_i2f hX dX3_safeShare_60 ?_
    refine z_fdiv hX dX3_safeShare_61 hw.1 ?_
    have hw := hw.2
    exact z_freturn hX hR dX3_safeShare_62 hw
  · have hw := hw.2 c27
    refine z_iload_n hX dX3_safeShare_23 rfl (i := 1) rfl ?_
    refine z_aload_n hX dX3_safeShare_24 rfl (i := 0) rfl ?_
    refine z_iload_n hX dX3_safeShare_25 rfl (i := 2) rfl ?_
    obtain ⟨a38, f39, r40, m41, hw⟩ := hw
    refine z_invV hX hd r40 (ci := 4) rfl rfl m41 dX3_safeShare_26 (hC 179 _ zm179 _ _ _ _ hw) q2683 q2685 qs59 zh7 q2686 q136 zn179 rfl (Nat.le_of_ble_eq_true rfl) (st := [.int p16]) rfl (zcs8 (Nat.le_of_ble_eq_true rfl)) rfl (zkI (fun v35 s36 hw => ?_)) (zout hX hR hTb)
    refine zJ_w (P := fun (j : Int32 → zS → Prop) => ∀ (p42 : Int32) (s43 : zS), j p42 s43 → zW X s43 46 [some (va_rf (some a0)), none, some (.int p17)] [.int p42, .int p16]) hw (fun p42 s43 hw => ?_) (fun j44 hj44 hw => ?_)
    · refine z_iadd hX dX3_safeShare_46 ?_
      refine z_istore_n hX dX3_safeShare_47 rfl (i := 1) (Nat.le_of_ble_eq_true rfl) (zc_rf _) (ls2 := [some (va_rf (some a0)), some (.int (p16 + p42)), some (.int p17)]) rfl ?_
      obtain ⟨v45, e46⟩ : ∃ y : Int32, y = p17 + (1 : Int32) := ⟨_, rfl⟩
      refine z_iinc hX dX3_safeShare_48 (i := 2) (v := v45) rfl (by rw [e46]; rfl) (Nat.le_of_ble_eq_true rfl) rfl (ls2 := [some (va_rf (some a0)), some (.int (p16 + p42)), some (.int v45)]) rfl ?_
      have hw := hw v45 e46
      refine z_goto hX dX3_safeShare_51 (tgt := 13) rfl ?_
      exact hrec19 _ _ _ hw
    · refine zJ_w (P := fun (j : zS → Prop) => ∀  (s47 : zS), j  s47 → zW X s47 45 [some (va_rf (some a0)), none, some (.int p17)] [.int p16]) hw (fun  s47 hw => ?_) (fun j48 hj48 hw => ?_)
      · refine z_iconst hX (v := (0 : Int32)) dX3_safeShare_45 (by decide) ?_
        exact hj44 _ _ hw
      · refine z_if_eq hX dX3_safeShare_29 (tgt := 45) rfl (fun c49 => ?_) (fun c49 => ?_)
        · have hw := hw.1 c49
          refine z_sub (ls' := [some (va_rf (some a0)), none, some (.int p17)]) (zsS (zsN (zsS (zs0)))) ?_
          exact hj48  _ hw
        · have hw := hw.2 c49
          refine z_aload_n hX dX3_safeShare_32 rfl (i := 0) rfl ?_
          obtain ⟨a51, f52, v50, r53, m54, e55, hw⟩ := hw
          refine z_get hX zc4 (k := 11) dX3_safeShare_33 (Nat.le_of_ble_eq_true rfl) (zlk hX q2480) r53 m54 e55 ?_
          refine z_iload_n hX dX3_safeShare_36 rfl (i := 2) rfl ?_
          obtain ⟨a56, n57, f58, r59, m60, i61, hw⟩ := hw
          refine z_iald hX dX3_safeShare_37 r59 m60 i61 ?_
          revert hw
          generalize f58 (Int32.toNatClampNeg p17) = v62
          intro hw
          refine z_if_ne hX dX3_safeShare_38 (tgt := 45) rfl (fun c64 => ?_) (fun c64 => ?_)
          · have hw := hw.1 c64
            refine z_sub (ls' := [some (va_rf (some a0)), none, some (.int p17)]) (zsS (zsN (zsS (zs0)))) ?_
            exact hj48  _ hw
          · have hw := hw.2 c64
            refine z_iconst hX (v := (1 : Int32)) dX3_safeShare_41 (by decide) ?_
            refine z_goto hX dX3_safeShare_42 (tgt := 46) rfl ?_
            refine z_sub (ls' := [some (va_rf (some a0)), none, some (.int p17)]) (zsS (zsN (zsS (zs0)))) ?_
            exact hj44 _ _ hw
abbrev cX3_setItem : ByteArray := prog_28_method_87_code
def yX3_setItem : MethodName := ⟨RX3, "setItem", "(III)I"⟩
def dkwX3_setItem_2 : List UInt8 := [7, 27, 104, 96, 28, 96, 29, 182, 1, 95, 167, 0, 4, 3, 172]
abbrev dktX3_setItem_2 : List UInt8 := dkwX3_setItem_2 ++ []
def dkwX3_setItem_1 : List UInt8 := [184, 1, 92, 153, 0, 7, 3, 167, 0, 4, 5, 181, 0, 103, 42, 180, 0, 103, 154, 0, 19, 42, 16, 11]
abbrev dktX3_setItem_1 : List UInt8 := dkwX3_setItem_1 ++ dktX3_setItem_2
def dkwX3_setItem_0 : List UInt8 := [42, 42, 27, 182, 1, 36, 153, 0, 12, 28, 3, 6, 184, 0, 109, 154, 0, 7, 4, 167, 0, 16, 28, 29]
abbrev dktX3_setItem_0 : List UInt8 := dkwX3_setItem_0 ++ dktX3_setItem_1
theorem dksX3_setItem_0 : cX3_setItem.data.toList.drop 0 = dktX3_setItem_0 := by decide +kernel
theorem dksX3_setItem_1 : cX3_setItem.data.toList.drop 24 = dktX3_setItem_1 := dk_seg dksX3_setItem_0 24 rfl rfl
theorem dksX3_setItem_2 : cX3_setItem.data.toList.drop 48 = dktX3_setItem_2 := dk_seg dksX3_setItem_1 24 rfl rfl
theorem dX3_setItem_0 : decode cX3_setItem 0 = .ok (.aload_n 0, 1) := dk_42 (dk_at dksX3_setItem_0 0 rfl rfl)
theorem dX3_setItem_1 : decode cX3_setItem 1 = .ok (.aload_n 0, 1) := dk_42 (dk_at dksX3_setItem_0 1 rfl rfl)
theorem dX3_setItem_2 : decode cX3_setItem 2 = .ok (.iload_n 1, 1) := dk_27 (dk_at dksX3_setItem_0 2 rfl rfl)
theorem dX3_setItem_3 : decode cX3_setItem 3 = .ok (.invokevirtual 292, 3) := dk_182 1 36 (dk_at dksX3_setItem_0 3 rfl rfl)
theorem dX3_setItem_6 : decode cX3_setItem 6 = .ok (.ifCond .eq 12, 3) := dk_153 0 12 (dk_at dksX3_setItem_0 6 rfl rfl)
theorem dX3_setItem_9 : decode cX3_setItem 9 = .ok (.iload_n 2, 1) := dk_28 (dk_at dksX3_setItem_0 9 rfl rfl)
theorem dX3_setItem_10 : decode cX3_setItem 10 = .ok (.iconst 0, 1) := dk_3 (dk_at dksX3_setItem_0 10 rfl rfl)
theorem dX3_setItem_11 : decode cX3_setItem 11 = .ok (.iconst 3, 1) := dk_6 (dk_at dksX3_setItem_0 11 rfl rfl)
theorem dX3_setItem_12 : decode cX3_setItem 12 = .ok (.invokestatic 109, 3) := dk_184 0 109 (dk_at dksX3_setItem_0 12 rfl rfl)
theorem dX3_setItem_15 : decode cX3_setItem 15 = .ok (.ifCond .ne 7, 3) := dk_154 0 7 (dk_at dksX3_setItem_0 15 rfl rfl)
theorem dX3_setItem_18 : decode cX3_setItem 18 = .ok (.iconst 1, 1) := dk_4 (dk_at dksX3_setItem_0 18 rfl rfl)
theorem dX3_setItem_19 : decode cX3_setItem 19 = .ok (.goto 16, 3) := dk_167 0 16 (dk_at dksX3_setItem_0 19 rfl rfl)
theorem dX3_setItem_22 : decode cX3_setItem 22 = .ok (.iload_n 2, 1) := dk_28 (dk_at dksX3_setItem_0 22 rfl rfl)
theorem dX3_setItem_23 : decode cX3_setItem 23 = .ok (.iload_n 3, 1) := dk_29 (dk_at dksX3_setItem_0 23 rfl rfl)
theorem dX3_setItem_24 : decode cX3_setItem 24 = .ok (.invokestatic 348, 3) := dk_184 1 92 (dk_at dksX3_setItem_1 0 rfl rfl)
theorem dX3_setItem_27 : decode cX3_setItem 27 = .ok (.ifCond .eq 7, 3) := dk_153 0 7 (dk_at dksX3_setItem_1 3 rfl rfl)
theorem dX3_setItem_30 : decode cX3_setItem 30 = .ok (.iconst 0, 1) := dk_3 (dk_at dksX3_setItem_1 6 rfl rfl)
theorem dX3_setItem_31 : decode cX3_setItem 31 = .ok (.goto 4, 3) := dk_167 0 4 (dk_at dksX3_setItem_1 7 rfl rfl)
theorem dX3_setItem_34 : decode cX3_setItem 34 = .ok (.iconst 2, 1) := dk_5 (dk_at dksX3_setItem_1 10 rfl rfl)
theorem dX3_setItem_35 : decode cX3_setItem 35 = .ok (.putfield 103, 3) := dk_181 0 103 (dk_at dksX3_setItem_1 11 rfl rfl)
theorem dX3_setItem_38 : decode cX3_setItem 38 = .ok (.aload_n 0, 1) := dk_42 (dk_at dksX3_setItem_1 14 rfl rfl)
theorem dX3_setItem_39 : decode cX3_setItem 39 = .ok (.getfield 103, 3) := dk_180 0 103 (dk_at dksX3_setItem_1 15 rfl rfl)
theorem dX3_setItem_42 : decode cX3_setItem 42 = .ok (.ifCond .ne 19, 3) := dk_154 0 19 (dk_at dksX3_setItem_1 18 rfl rfl)
theorem dX3_setItem_45 : decode cX3_setItem 45 = .ok (.aload_n 0, 1) := dk_42 (dk_at dksX3_setItem_1 21 rfl rfl)
theorem dX3_setItem_46 : decode cX3_setItem 46 = .ok (.bipush 11, 2) := dk_16 11 (dk_at dksX3_setItem_1 22 rfl rfl)
theorem dX3_setItem_48 : decode cX3_setItem 48 = .ok (.iconst 4, 1) := dk_7 (dk_at dksX3_setItem_2 0 rfl rfl)
theorem dX3_setItem_49 : decode cX3_setItem 49 = .ok (.iload_n 1, 1) := dk_27 (dk_at dksX3_setItem_2 1 rfl rfl)
theorem dX3_setItem_50 : decode cX3_setItem 50 = .ok (.imul, 1) := dk_104 (dk_at dksX3_setItem_2 2 rfl rfl)
theorem dX3_setItem_51 : decode cX3_setItem 51 = .ok (.iadd, 1) := dk_96 (dk_at dksX3_setItem_2 3 rfl rfl)
theorem dX3_setItem_52 : decode cX3_setItem 52 = .ok (.iload_n 2, 1) := dk_28 (dk_at dksX3_setItem_2 4 rfl rfl)
theorem dX3_setItem_53 : decode cX3_setItem 53 = .ok (.iadd, 1) := dk_96 (dk_at dksX3_setItem_2 5 rfl rfl)
theorem dX3_setItem_54 : decode cX3_setItem 54 = .ok (.iload_n 3, 1) := dk_29 (dk_at dksX3_setItem_2 6 rfl rfl)
theorem dX3_setItem_55 : decode cX3_setItem 55 = .ok (.invokevirtual 351, 3) := dk_182 1 95 (dk_at dksX3_setItem_2 7 rfl rfl)
theorem dX3_setItem_58 : decode cX3_setItem 58 = .ok (.goto 4, 3) := dk_167 0 4 (dk_at dksX3_setItem_2 10 rfl rfl)
theorem dX3_setItem_61 : decode cX3_setItem 61 = .ok (.iconst 0, 1) := dk_3 (dk_at dksX3_setItem_2 13 rfl rfl)
theorem dX3_setItem_62 : decode cX3_setItem 62 = .ok (.ireturn, 1) := dk_172 (dk_at dksX3_setItem_2 14 rfl rfl)
/-- PackingDuelModel.setItem(III)I -/
def zb234 (G : zPg) (C : zO) (args : List Value) (Q : zQ) (Y : zY) (σ : zS) : Prop := ∃ (a0 : Nat) (x1 : Int32) (x2 : Int32) (x3 : Int32), args = [.ref a0, .int x1, .int x2, .int x3] ∧ (zrc σ (some a0) 4 (fun a4 => zcl C 165 [.ref a4, .int x1] Y σ (zqI (fun v1 s2 => zJ (fun (p8 : Int32) (s9 : zS) => zput s9 G.1 (some a0) 4 5 (.int p8) (fun s11 => zgI s11 (some a0) 4 5 (fun v19 => zJ (fun (p25 : Int32) (s26 : zS) => Q (some (.int p25)) s26) (fun (j27 : Int32 → zS → Prop) => ((¬ v19 = 0) → j27 (0 : Int32) s11) ∧ ((v19 = 0) → zrc s11 (some a0) 4 (fun a32 => zcl C 236 [.ref a32, .int (((11 : Int32) + ((4 : Int32) * x1)) + x2), .int x3] Y s11 (zqI (fun v29 s30 => j27 v29 s30)))))))) (fun (j10 : Int32 → zS → Prop) => zJ (fun  (s36 : zS) => j10 (1 : Int32) s36) (fun (j37 : zS → Prop) => ((v1 = 0) → j37 s2) ∧ ((¬ v1 = 0) → zcl C 166 [.int x2, .int (0 : Int32), .int (3 : Int32)] Y s2 (zqI (fun v39 s40 => ((¬ v39 = 0) → zcl C 235 [.int x2, .int x3] Y s40 (zqI (fun v43 s44 => ((v43 = 0) → j10 (2 : Int32) s44) ∧ ((¬ v43 = 0) → j10 (0 : Int32) s44)))) ∧ ((v39 = 0) → j37 s40))))))))))
set_option maxHeartbeats 4000000 in
theorem wk234 {l : Launch} {g : zG} {d : Nat} {C : zO} (hG : zGk g) (hC : zSound l g d C) {args : List Value} {Q : zQ} {Y : zY} {σ : zS} (hw : zb234 (zpg g) C args Q Y σ) : zMet l g (d + 1) (⟨"PackingDuelModel", "setItem", "(III)I"⟩, Cond.code ⟨"PackingDuelModel", "setItem", "(III)I"⟩ prog_28_method_87_code 4 (Option.some FieldType.int)) args σ Q Y := by
  obtain ⟨a0, x1, x2, x3, rfl, hw⟩ := hw
  refine zof hG (by decide +kernel) [false, false, false, false] ⟨rfl, rfl, rfl, rfl, trivial⟩ (Nat.le_of_ble_eq_true rfl) (ls := [some (va_rf (some a0)), some (.int x1), some (.int x2), some (.int x3)]) rfl ?_
  intro X hX hR hTb hd1 hd2 hl hg hnm
  subst hl
  subst hg
  have hd : zDep X d := ⟨hd1, hd2⟩
  refine z_aload_n hX dX3_setItem_0 rfl (i := 0) rfl ?_
  refine z_aload_n hX dX3_setItem_1 rfl (i := 0) rfl ?_
  refine z_iload_n hX dX3_setItem_2 rfl (i := 1) rfl ?_
  obtain ⟨a4, f5, r6, m7, hw⟩ := hw
  refine z_invV hX hd r6 (ci := 4) rfl rfl m7 dX3_setItem_3 (hC 165 _ zm165 _ _ _ _ hw) q2628 q2630 qs50 zh7 q2631 q136 zn165 rfl (Nat.le_of_ble_eq_true rfl) (st := [va_rf (some a0)]) rfl (zcs8 (Nat.le_of_ble_eq_true rfl)) rfl (zkI (fun v1 s2 hw => ?_)) (zout hX hR hTb)
  refine zJ_w (P := fun (j : Int32 → zS → Prop) => ∀ (p8 : Int32) (s9 : zS), j p8 s9 → zW X s9 35 [some (va_rf (some a0)), some (.int x1), some (.int x2), some (.int x3)] [.int p8, va_rf (some a0)]) hw (fun p8 s9 hw => ?_) (fun j10 hj10 hw => ?_)
  · obtain ⟨a13, f14, r15, g16, m17, l18, hw⟩ := hw
    refine z_put hX zc4 (k := 5) dX3_setItem_35 (Nat.le_of_ble_eq_true rfl) (zlk hX q2474) rfl rfl rfl r15 g16 m17 l18 (z_nm (fun s11 e12 => ?_))
    have hw := hw s11 e12
    refine z_aload_n hX dX3_setItem_38 rfl (i := 0) rfl ?_
    obtain ⟨a20, f21, v19, r22, m23, e24, hw⟩ := hw
    refine z_get hX zc4 (k := 5) dX3_setItem_39 (Nat.le_of_ble_eq_true rfl) (zlk hX q2474) r22 m23 e24 ?_
    refine zJ_w (P := fun (j : Int32 → zS → Prop) => ∀ (p25 : Int32) (s26 : zS), j p25 s26 → zW X s26 62 [none, none, none, none] [.int p25]) hw (fun p25 s26 hw => ?_) (fun j27 hj27 hw => ?_)
    · exact z_ireturn hX hR dX3_setItem_62 rfl hw
    · refine z_if_ne hX dX3_setItem_42 (tgt := 61) rfl (fun c28 => ?_) (fun c28 => ?_)
      · have hw := hw.1 c28
        refine z_iconst hX (v := (0 : Int32)) dX3_setItem_61 (by decide) ?_
        refine z_sub (ls' := [none, none, none, none]) (zsN (zsN (zsN (zsN (zs0))))) ?_
        exact hj27 _ _ hw
      · have hw := hw.2 c28
        refine z_aload_n hX dX3_setItem_45 rfl (i := 0) rfl ?_
        refine z_bipush hX (v := (11 : Int32)) dX3_setItem_46 (by decide) ?_
        refine z_iconst hX (v := (4 : Int32)) dX3_setItem_48 (by decide) ?_
        refine z_iload_n hX dX3_setItem_49 rfl (i := 1) rfl ?_
        refine z_imul hX dX3_setItem_50 ?_
        refine z_iadd hX dX3_setItem_51 ?_
        refine z_iload_n hX dX3_setItem_52 rfl (i := 2) rfl ?_
        refine z_iadd hX dX3_setItem_53 ?_
        refine z_iload_n hX dX3_setItem_54 rfl (i := 3) rfl ?_
        obtain ⟨a32, f33, r34, m35, hw⟩ := hw
        refine z_invV hX hd r34 (ci := 4) rfl rfl m35 dX3_setItem_55 (hC 236 _ zm236 _ _ _ _ hw) q2907 q2909 qs92 zh7 q2910 q136 zn236 rfl (Nat.le_of_ble_eq_true rfl) (st := []) rfl (zcs8 (Nat.le_of_ble_eq_true rfl)) rfl (zkI (fun v29 s30 hw => ?_)) (zout hX hR hTb)
        refine z_goto hX dX3_setItem_58 (tgt := 62) rfl ?_
        refine z_sub (ls' := [none, none, none, none]) (zsN (zsN (zsN (zsN (zs0))))) ?_
        exact hj27 _ _ hw
  · refine zJ_w (P := fun (j : zS → Prop) => ∀  (s36 : zS), j  s36 → zW X s36 18 [some (va_rf (some a0)), some (.int x1), some (.int x2), some (.int x3)] [va_rf (some a0)]) hw (fun  s36 hw => ?_) (fun j37 hj37 hw => ?_)
    · refine z_iconst hX (v := (1 : Int32)) dX3_setItem_18 (by decide) ?_
      refine z_goto hX dX3_setItem_19 (tgt := 35) rfl ?_
      exact hj10 _ _ hw
    · refine z_if_eq hX dX3_setItem_6 (tgt := 18) rfl (fun c38 => ?_) (fun c38 => ?_)
      · have hw := hw.1 c38
        exact hj37  _ hw
      · have hw := hw.2 c38
        refine z_iload_n hX dX3_setItem_9 rfl (i := 2) rfl ?_
        refine z_iconst hX (v := (0 : Int32)) dX3_setItem_10 (by decide) ?_
        refine z_iconst hX (v := (3 : Int32)) dX3_setItem_11 (by decide) ?_
        refine z_invS hX hd dX3_setItem_12 (hC 166 _ zm166 _ _ _ _ hw) q2632 q2633 zh7 q2634 q136 zn166 rfl (Nat.le_of_ble_eq_true rfl) (st := [va_rf (some a0)]) rfl (zcs8 (Nat.le_of_ble_eq_true rfl)) rfl (zkI (fun v39 s40 hw => ?_)) (zout hX hR hTb)
        refine z_if_ne hX dX3_setItem_15 (tgt := 22) rfl (fun c42 => ?_) (fun c42 => ?_)
        · have hw := hw.1 c42
          refine z_iload_n hX dX3_setItem_22 rfl (i := 2) rfl ?_
          refine z_iload_n hX dX3_setItem_23 rfl (i := 3) rfl ?_
          refine z_invS hX hd dX3_setItem_24 (hC 235 _ zm235 _ _ _ _ hw) q2904 q2905 zh7 q2906 q136 zn235 rfl (Nat.le_of_ble_eq_true rfl) (st := [va_rf (some a0)]) rfl (zcs8 (Nat.le_of_ble_eq_true rfl)) rfl (zkI (fun v43 s44 hw => ?_)) (zout hX hR hTb)
          refine z_if_eq hX dX3_setItem_27 (tgt := 34) rfl (fun c46 => ?_) (fun c46 => ?_)
          · have hw := hw.1 c46
            refine z_iconst hX (v := (2 : Int32)) dX3_setItem_34 (by decide) ?_
            exact hj10 _ _ hw
          · have hw := hw.2 c46
            refine z_iconst hX (v := (0 : Int32)) dX3_setItem_30 (by decide) ?_
            refine z_goto hX dX3_setItem_31 (tgt := 35) rfl ?_
            exact hj10 _ _ hw
        · have hw := hw.2 c42
          exact hj37  _ hw
abbrev cX3_isAmount : ByteArray := prog_28_method_86_code
def yX3_isAmount : MethodName := ⟨RX3, "isAmount", "(II)Z"⟩
def dkwX3_isAmount_0 : List UInt8 := [26, 154, 0, 13, 27, 4, 16, 50, 184, 0, 109, 167, 0, 10, 27, 3, 16, 99, 184, 0, 109, 172]
abbrev dktX3_isAmount_0 : List UInt8 := dkwX3_isAmount_0 ++ []
theorem dksX3_isAmount_0 : cX3_isAmount.data.toList.drop 0 = dktX3_isAmount_0 := by decide +kernel
theorem dX3_isAmount_0 : decode cX3_isAmount 0 = .ok (.iload_n 0, 1) := dk_26 (dk_at dksX3_isAmount_0 0 rfl rfl)
theorem dX3_isAmount_1 : decode cX3_isAmount 1 = .ok (.ifCond .ne 13, 3) := dk_154 0 13 (dk_at dksX3_isAmount_0 1 rfl rfl)
theorem dX3_isAmount_4 : decode cX3_isAmount 4 = .ok (.iload_n 1, 1) := dk_27 (dk_at dksX3_isAmount_0 4 rfl rfl)
theorem dX3_isAmount_5 : decode cX3_isAmount 5 = .ok (.iconst 1, 1) := dk_4 (dk_at dksX3_isAmount_0 5 rfl rfl)
theorem dX3_isAmount_6 : decode cX3_isAmount 6 = .ok (.bipush 50, 2) := dk_16 50 (dk_at dksX3_isAmount_0 6 rfl rfl)
theorem dX3_isAmount_8 : decode cX3_isAmount 8 = .ok (.invokestatic 109, 3) := dk_184 0 109 (dk_at dksX3_isAmount_0 8 rfl rfl)
theorem dX3_isAmount_11 : decode cX3_isAmount 11 = .ok (.goto 10, 3) := dk_167 0 10 (dk_at dksX3_isAmount_0 11 rfl rfl)
theorem dX3_isAmount_14 : decode cX3_isAmount 14 = .ok (.iload_n 1, 1) := dk_27 (dk_at dksX3_isAmount_0 14 rfl rfl)
theorem dX3_isAmount_15 : decode cX3_isAmount 15 = .ok (.iconst 0, 1) := dk_3 (dk_at dksX3_isAmount_0 15 rfl rfl)
theorem dX3_isAmount_16 : decode cX3_isAmount 16 = .ok (.bipush 99, 2) := dk_16 99 (dk_at dksX3_isAmount_0 16 rfl rfl)
theorem dX3_isAmount_18 : decode cX3_isAmount 18 = .ok (.invokestatic 109, 3) := dk_184 0 109 (dk_at dksX3_isAmount_0 18 rfl rfl)
theorem dX3_isAmount_21 : decode cX3_isAmount 21 = .ok (.ireturn, 1) := dk_172 (dk_at dksX3_isAmount_0 21 rfl rfl)
/-- PackingDuelModel.isAmount(II)Z -/
def zb235 (G : zPg) (C : zO) (args : List Value) (Q : zQ) (Y : zY) (σ : zS) : Prop := ∃ (x1 : Int32) (x2 : Int32), args = [.int x1, .int x2] ∧ (zJ (fun (p1 : Int32) (s2 : zS) => zbool p1 ∧ Q (some (.int p1)) s2) (fun (j3 : Int32 → zS → Prop) => ((¬ x1 = 0) → zcl C 166 [.int x2, .int (0 : Int32), .int (99 : Int32)] Y σ (zqI (fun v5 s6 => j3 v5 s6))) ∧ ((x1 = 0) → zcl C 166 [.int x2, .int (1 : Int32), .int (50 : Int32)] Y σ (zqI (fun v8 s9 => j3 v8 s9)))))
set_option maxHeartbeats 4000000 in
theorem wk235 {l : Launch} {g : zG} {d : Nat} {C : zO} (hG : zGk g) (hC : zSound l g d C) {args : List Value} {Q : zQ} {Y : zY} {σ : zS} (hw : zb235 (zpg g) C args Q Y σ) : zMet l g (d + 1) (⟨"PackingDuelModel", "isAmount", "(II)Z"⟩, Cond.code ⟨"PackingDuelModel", "isAmount", "(II)Z"⟩ prog_28_method_86_code 2 (Option.some FieldType.boolean)) args σ Q Y := by
  obtain ⟨x1, x2, rfl, hw⟩ := hw
  refine zof hG (by decide +kernel) [false, false] ⟨rfl, rfl, trivial⟩ (Nat.le_of_ble_eq_true rfl) (ls := [some (.int x1), some (.int x2)]) rfl ?_
  intro X hX hR hTb hd1 hd2 hl hg hnm
  subst hl
  subst hg
  have hd : zDep X d := ⟨hd1, hd2⟩
  refine z_iload_n hX dX3_isAmount_0 rfl (i := 0) rfl ?_
  refine zJ_w (P := fun (j : Int32 → zS → Prop) => ∀ (p1 : Int32) (s2 : zS), j p1 s2 → zW X s2 21 [none, none] [.int p1]) hw (fun p1 s2 hw => ?_) (fun j3 hj3 hw => ?_)
  · exact z_ireturn hX hR dX3_isAmount_21 (zn_z hw.1) hw.2
  · refine z_if_ne hX dX3_isAmount_1 (tgt := 14) rfl (fun c4 => ?_) (fun c4 => ?_)
    · have hw := hw.1 c4
      refine z_iload_n hX dX3_isAmount_14 rfl (i := 1) rfl ?_
      refine z_iconst hX (v := (0 : Int32)) dX3_isAmount_15 (by decide) ?_
      refine z_bipush hX (v := (99 : Int32)) dX3_isAmount_16 (by decide) ?_
      refine z_invS hX hd dX3_isAmount_18 (hC 166 _ zm166 _ _ _ _ hw) q2632 q2633 zh7 q2634 q136 zn166 rfl (Nat.le_of_ble_eq_true rfl) (st := []) rfl (zcs8 (Nat.le_of_ble_eq_true rfl)) rfl (zkI (fun v5 s6 hw => ?_)) (zout hX hR hTb)
      refine z_sub (ls' := [none, none]) (zsN (zsN (zs0))) ?_
      exact hj3 _ _ hw
    · have hw := hw.2 c4
      refine z_iload_n hX dX3_isAmount_4 rfl (i := 1) rfl ?_
      refine z_iconst hX (v := (1 : Int32)) dX3_isAmount_5 (by decide) ?_
      refine z_bipush hX (v := (50 : Int32)) dX3_isAmount_6 (by decide) ?_
      refine z_invS hX hd dX3_isAmount_8 (hC 166 _ zm166 _ _ _ _ hw) q2632 q2633 zh7 q2634 q136 zn166 rfl (Nat.le_of_ble_eq_true rfl) (st := []) rfl (zcs8 (Nat.le_of_ble_eq_true rfl)) rfl (zkI (fun v8 s9 hw => ?_)) (zout hX hR hTb)
      refine z_goto hX dX3_isAmount_11 (tgt := 21) rfl ?_
      refine z_sub (ls' := [none, none]) (zsN (zsN (zs0))) ?_
      exact hj3 _ _ hw
abbrev cX3_change : ByteArray := prog_28_method_85_code
def yX3_change : MethodName := ⟨RX3, "change", "(II)I"⟩
def dkwX3_change_1 : List UInt8 := [182, 1, 88, 42, 3, 182, 1, 88, 29, 172]
abbrev dktX3_change_1 : List UInt8 := dkwX3_change_1 ++ []
def dkwX3_change_0 : List UInt8 := [42, 182, 1, 82, 42, 180, 0, 9, 27, 46, 62, 42, 180, 0, 9, 27, 28, 79, 42, 182, 1, 85, 42, 4]
abbrev dktX3_change_0 : List UInt8 := dkwX3_change_0 ++ dktX3_change_1
theorem dksX3_change_0 : cX3_change.data.toList.drop 0 = dktX3_change_0 := by decide +kernel
theorem dksX3_change_1 : cX3_change.data.toList.drop 24 = dktX3_change_1 := dk_seg dksX3_change_0 24 rfl rfl
theorem dX3_change_0 : decode cX3_change 0 = .ok (.aload_n 0, 1) := dk_42 (dk_at dksX3_change_0 0 rfl rfl)
theorem dX3_change_1 : decode cX3_change 1 = .ok (.invokevirtual 338, 3) := dk_182 1 82 (dk_at dksX3_change_0 1 rfl rfl)
theorem dX3_change_4 : decode cX3_change 4 = .ok (.aload_n 0, 1) := dk_42 (dk_at dksX3_change_0 4 rfl rfl)
theorem dX3_change_5 : decode cX3_change 5 = .ok (.getfield 9, 3) := dk_180 0 9 (dk_at dksX3_change_0 5 rfl rfl)
theorem dX3_change_8 : decode cX3_change 8 = .ok (.iload_n 1, 1) := dk_27 (dk_at dksX3_change_0 8 rfl rfl)
theorem dX3_change_9 : decode cX3_change 9 = .ok (.iaload, 1) := dk_46 (dk_at dksX3_change_0 9 rfl rfl)
theorem dX3_change_10 : decode cX3_change 10 = .ok (.istore_n 3, 1) := dk_62 (dk_at dksX3_change_0 10 rfl rfl)
theorem dX3_change_11 : decode cX3_change 11 = .ok (.aload_n 0, 1) := dk_42 (dk_at dksX3_change_0 11 rfl rfl)
theorem dX3_change_12 : decode cX3_change 12 = .ok (.getfield 9, 3) := dk_180 0 9 (dk_at dksX3_change_0 12 rfl rfl)
theorem dX3_change_15 : decode cX3_change 15 = .ok (.iload_n 1, 1) := dk_27 (dk_at dksX3_change_0 15 rfl rfl)
theorem dX3_change_16 : decode cX3_change 16 = .ok (.iload_n 2, 1) := dk_28 (dk_at dksX3_change_0 16 rfl rfl)
theorem dX3_change_17 : decode cX3_change 17 = .ok (.iastore, 1) := dk_79 (dk_at dksX3_change_0 17 rfl rfl)
theorem dX3_change_18 : decode cX3_change 18 = .ok (.aload_n 0, 1) := dk_42 (dk_at dksX3_change_0 18 rfl rfl)
theorem dX3_change_19 : decode cX3_change 19 = .ok (.invokevirtual 341, 3) := dk_182 1 85 (dk_at dksX3_change_0 19 rfl rfl)
theorem dX3_change_22 : decode cX3_change 22 = .ok (.aload_n 0, 1) := dk_42 (dk_at dksX3_change_0 22 rfl rfl)
theorem dX3_change_23 : decode cX3_change 23 = .ok (.iconst 1, 1) := dk_4 (dk_at dksX3_change_0 23 rfl rfl)
theorem dX3_change_24 : decode cX3_change 24 = .ok (.invokevirtual 344, 3) := dk_182 1 88 (dk_at dksX3_change_1 0 rfl rfl)
theorem dX3_change_27 : decode cX3_change 27 = .ok (.aload_n 0, 1) := dk_42 (dk_at dksX3_change_1 3 rfl rfl)
theorem dX3_change_28 : decode cX3_change 28 = .ok (.iconst 0, 1) := dk_3 (dk_at dksX3_change_1 4 rfl rfl)
theorem dX3_change_29 : decode cX3_change 29 = .ok (.invokevirtual 344, 3) := dk_182 1 88 (dk_at dksX3_change_1 5 rfl rfl)
theorem dX3_change_32 : decode cX3_change 32 = .ok (.iload_n 3, 1) := dk_29 (dk_at dksX3_change_1 8 rfl rfl)
theorem dX3_change_33 : decode cX3_change 33 = .ok (.ireturn, 1) := dk_172 (dk_at dksX3_change_1 9 rfl rfl)
/-- PackingDuelModel.change(II)I -/
def zb236 (G : zPg) (C : zO) (args : List Value) (Q : zQ) (Y : zY) (σ : zS) : Prop := ∃ (a0 : Nat) (x1 : Int32) (x2 : Int32), args = [.ref a0, .int x1, .int x2] ∧ (zrc σ (some a0) 4 (fun a4 => zcl C 237 [.ref a4] Y σ (zqV (fun s2 => zgR s2 (some a0) 4 0 (fun v8 => zaI s2 0 v8 x1 (fun v20 => zgR s2 (some a0) 4 0 (fun v22 => zsI s2 G.1 0 v22 x1 x2 (fun s35 => zrc s35 (some a0) 4 (fun a40 => zcl C 239 [.ref a40] Y s35 (zqV (fun s38 => zrc s38 (some a0) 4 (fun a47 => zcl C 240 [.ref a47, .int (1 : Int32)] Y s38 (zqV (fun s45 => zrc s45 (some a0) 4 (fun a54 => zcl C 240 [.ref a54, .int (0 : Int32)] Y s45 (zqV (fun s52 => Q (some (.int v20)) s52)))))))))))))))))
set_option maxHeartbeats 4000000 in
theorem wk236 {l : Launch} {g : zG} {d : Nat} {C : zO} (hG : zGk g) (hC : zSound l g d C) {args : List Value} {Q : zQ} {Y : zY} {σ : zS} (hw : zb236 (zpg g) C args Q Y σ) : zMet l g (d + 1) (⟨"PackingDuelModel", "change", "(II)I"⟩, Cond.code ⟨"PackingDuelModel", "change", "(II)I"⟩ prog_28_method_85_code 4 (Option.some FieldType.int)) args σ Q Y := by
  obtain ⟨a0, x1, x2, rfl, hw⟩ := hw
  refine zof hG (by decide +kernel) [false, false, false] ⟨rfl, rfl, rfl, trivial⟩ (Nat.le_of_ble_eq_true rfl) (ls := [some (va_rf (some a0)), some (.int x1), some (.int x2), none]) rfl ?_
  intro X hX hR hTb hd1 hd2 hl hg hnm
  subst hl
  subst hg
  have hd : zDep X d := ⟨hd1, hd2⟩
  refine z_aload_n hX dX3_change_0 rfl (i := 0) rfl ?_
  obtain ⟨a4, f5, r6, m7, hw⟩ := hw
  refine z_invV hX hd r6 (ci := 4) rfl rfl m7 dX3_change_1 (hC 237 _ zm237 _ _ _ _ hw) q2911 q2913 qs93 zh7 q2914 q136 zn237 rfl (Nat.le_of_ble_eq_true rfl) (st := []) rfl (zcs8 (Nat.le_of_ble_eq_true rfl)) rfl (zkV (fun s2 hw => ?_)) (zout hX hR hTb)
  refine z_aload_n hX dX3_change_4 rfl (i := 0) rfl ?_
  obtain ⟨a9, f10, v8, r11, m12, e13, hw⟩ := hw
  refine z_get hX zc4 (k := 0) dX3_change_5 (Nat.le_of_ble_eq_true rfl) (zlk hX q2469) r11 m12 e13 ?_
  refine z_iload_n hX dX3_change_8 rfl (i := 1) rfl ?_
  obtain ⟨a14, n15, f16, r17, m18, i19, hw⟩ := hw
  refine z_iald hX dX3_change_9 r17 m18 i19 ?_
  revert hw
  generalize f16 (Int32.toNatClampNeg x1) = v20
  intro hw
  refine z_istore_n hX dX3_change_10 rfl (i := 3) (Nat.le_of_ble_eq_true rfl) rfl (ls2 := [some (va_rf (some a0)), some (.int x1), some (.int x2), some (.int v20)]) rfl ?_
  refine z_aload_n hX dX3_change_11 rfl (i := 0) rfl ?_
  obtain ⟨a23, f24, v22, r25, m26, e27, hw⟩ := hw
  refine z_get hX zc4 (k := 0) dX3_change_12 (Nat.le_of_ble_eq_true rfl) (zlk hX q2469) r25 m26 e27 ?_
  refine z_iload_n hX dX3_change_15 rfl (i := 1) rfl ?_
  refine z_iload_n hX dX3_change_16 rfl (i := 2) rfl ?_
  obtain ⟨a28, n29, f30, r31, g32, m33, i34, hw⟩ := hw
  refine z_iast hX dX3_change_17 r31 g32 m33 i34 (z_nm (fun s35 e36 => ?_))
  have hw := hw s35 e36
  refine z_aload_n hX dX3_change_18 rfl (i := 0) rfl ?_
  obtain ⟨a40, f41, r42, m43, hw⟩ := hw
  refine z_invV hX hd r42 (ci := 4) rfl rfl m43 dX3_change_19 (hC 239 _ zm239 _ _ _ _ hw) q2918 q2920 qs94 zh7 q2921 q136 zn239 rfl (Nat.le_of_ble_eq_true rfl) (st := []) rfl (zcs8 (Nat.le_of_ble_eq_true rfl)) rfl (zkV (fun s38 hw => ?_)) (zout hX hR hTb)
  refine z_aload_n hX dX3_change_22 rfl (i := 0) rfl ?_
  refine z_iconst hX (v := (1 : Int32)) dX3_change_23 (by decide) ?_
  obtain ⟨a47, f48, r49, m50, hw⟩ := hw
  refine z_invV hX hd r49 (ci := 4) rfl rfl m50 dX3_change_24 (hC 240 _ zm240 _ _ _ _ hw) q2922 q2924 qs95 zh7 q2925 q136 zn240 rfl (Nat.le_of_ble_eq_true rfl) (st := []) rfl (zcs8 (Nat.le_of_ble_eq_true rfl)) rfl (zkV (fun s45 hw => ?_)) (zout hX hR hTb)
  refine z_aload_n hX dX3_change_27 rfl (i := 0) rfl ?_
  refine z_iconst hX (v := (0 : Int32)) dX3_change_28 (by decide) ?_
  obtain ⟨a54, f55, r56, m57, hw⟩ := hw
  refine z_invV hX hd r56 (ci := 4) rfl rfl m57 dX3_change_29 (hC 240 _ zm240 _ _ _ _ hw) q2922 q2924 qs95 zh7 q2925 q136 zn240 rfl (Nat.le_of_ble_eq_true rfl) (st := []) rfl (zcs8 (Nat.le_of_ble_eq_true rfl)) rfl (zkV (fun s52 hw => ?_)) (zout hX hR hTb)
  refine z_iload_n hX dX3_change_32 rfl (i := 3) rfl ?_
  exact z_ireturn hX hR dX3_change_33 rfl hw
abbrev cX3_record : ByteArray := prog_28_method_104_code
def yX3_record : MethodName := ⟨RX3, "record", "()V"⟩
def dkwX3_record_3 : List UInt8 := [4, 96, 181, 1, 117, 177]
abbrev dktX3_record_3 : List UInt8 := dkwX3_record_3 ++ []
def dkwX3_record_2 : List UInt8 := [181, 1, 117, 42, 180, 0, 9, 3, 42, 180, 0, 19, 42, 180, 1, 117, 184, 1, 120, 42, 89, 180, 1, 117]
abbrev dktX3_record_2 : List UInt8 := dkwX3_record_2 ++ dktX3_record_3
def dkwX3_record_1 : List UInt8 := [180, 0, 19, 27, 4, 100, 184, 1, 120, 132, 1, 1, 167, 255, 232, 42, 89, 180, 1, 117, 4, 100]
abbrev dktX3_record_1 : List UInt8 := dkwX3_record_1 ++ dktX3_record_2
def dkwX3_record_0 : List UInt8 := [42, 180, 1, 117, 16, 10, 160, 0, 42, 4, 60, 27, 16, 10, 162, 0, 24, 42, 180, 0, 19, 27, 42]
abbrev dktX3_record_0 : List UInt8 := dkwX3_record_0 ++ dktX3_record_1
theorem dksX3_record_0 : cX3_record.data.toList.drop 0 = dktX3_record_0 := by decide +kernel
theorem dksX3_record_1 : cX3_record.data.toList.drop 23 = dktX3_record_1 := dk_seg dksX3_record_0 23 rfl rfl
theorem dksX3_record_2 : cX3_record.data.toList.drop 45 = dktX3_record_2 := dk_seg dksX3_record_1 22 rfl rfl
theorem dksX3_record_3 : cX3_record.data.toList.drop 69 = dktX3_record_3 := dk_seg dksX3_record_2 24 rfl rfl
theorem dX3_record_0 : decode cX3_record 0 = .ok (.aload_n 0, 1) := dk_42 (dk_at dksX3_record_0 0 rfl rfl)
theorem dX3_record_1 : decode cX3_record 1 = .ok (.getfield 373, 3) := dk_180 1 117 (dk_at dksX3_record_0 1 rfl rfl)
theorem dX3_record_4 : decode cX3_record 4 = .ok (.bipush 10, 2) := dk_16 10 (dk_at dksX3_record_0 4 rfl rfl)
theorem dX3_record_6 : decode cX3_record 6 = .ok (.if_icmp .ne 42, 3) := dk_160 0 42 (dk_at dksX3_record_0 6 rfl rfl)
theorem dX3_record_9 : decode cX3_record 9 = .ok (.iconst 1, 1) := dk_4 (dk_at dksX3_record_0 9 rfl rfl)
theorem dX3_record_10 : decode cX3_record 10 = .ok (.istore_n 1, 1) := dk_60 (dk_at dksX3_record_0 10 rfl rfl)
theorem dX3_record_11 : decode cX3_record 11 = .ok (.iload_n 1, 1) := dk_27 (dk_at dksX3_record_0 11 rfl rfl)
theorem dX3_record_12 : decode cX3_record 12 = .ok (.bipush 10, 2) := dk_16 10 (dk_at dksX3_record_0 12 rfl rfl)
theorem dX3_record_14 : decode cX3_record 14 = .ok (.if_icmp .ge 24, 3) := dk_162 0 24 (dk_at dksX3_record_0 14 rfl rfl)
theorem dX3_record_17 : decode cX3_record 17 = .ok (.aload_n 0, 1) := dk_42 (dk_at dksX3_record_0 17 rfl rfl)
theorem dX3_record_18 : decode cX3_record 18 = .ok (.getfield 19, 3) := dk_180 0 19 (dk_at dksX3_record_0 18 rfl rfl)
theorem dX3_record_21 : decode cX3_record 21 = .ok (.iload_n 1, 1) := dk_27 (dk_at dksX3_record_0 21 rfl rfl)
theorem dX3_record_22 : decode cX3_record 22 = .ok (.aload_n 0, 1) := dk_42 (dk_at dksX3_record_0 22 rfl rfl)
theorem dX3_record_23 : decode cX3_record 23 = .ok (.getfield 19, 3) := dk_180 0 19 (dk_at dksX3_record_1 0 rfl rfl)
theorem dX3_record_26 : decode cX3_record 26 = .ok (.iload_n 1, 1) := dk_27 (dk_at dksX3_record_1 3 rfl rfl)
theorem dX3_record_27 : decode cX3_record 27 = .ok (.iconst 1, 1) := dk_4 (dk_at dksX3_record_1 4 rfl rfl)
theorem dX3_record_28 : decode cX3_record 28 = .ok (.isub, 1) := dk_100 (dk_at dksX3_record_1 5 rfl rfl)
theorem dX3_record_29 : decode cX3_record 29 = .ok (.invokestatic 376, 3) := dk_184 1 120 (dk_at dksX3_record_1 6 rfl rfl)
theorem dX3_record_32 : decode cX3_record 32 = .ok (.iinc 1 1, 3) := dk_132 1 1 (dk_at dksX3_record_1 9 rfl rfl)
theorem dX3_record_35 : decode cX3_record 35 = .ok (.goto (-24), 3) := dk_167 255 232 (dk_at dksX3_record_1 12 rfl rfl)
theorem dX3_record_38 : decode cX3_record 38 = .ok (.aload_n 0, 1) := dk_42 (dk_at dksX3_record_1 15 rfl rfl)
theorem dX3_record_39 : decode cX3_record 39 = .ok (.dup, 1) := dk_89 (dk_at dksX3_record_1 16 rfl rfl)
theorem dX3_record_40 : decode cX3_record 40 = .ok (.getfield 373, 3) := dk_180 1 117 (dk_at dksX3_record_1 17 rfl rfl)
theorem dX3_record_43 : decode cX3_record 43 = .ok (.iconst 1, 1) := dk_4 (dk_at dksX3_record_1 20 rfl rfl)
theorem dX3_record_44 : decode cX3_record 44 = .ok (.isub, 1) := dk_100 (dk_at dksX3_record_1 21 rfl rfl)
theorem dX3_record_45 : decode cX3_record 45 = .ok (.putfield 373, 3) := dk_181 1 117 (dk_at dksX3_record_2 0 rfl rfl)
theorem dX3_record_48 : decode cX3_record 48 = .ok (.aload_n 0, 1) := dk_42 (dk_at dksX3_record_2 3 rfl rfl)
theorem dX3_record_49 : decode cX3_record 49 = .ok (.getfield 9, 3) := dk_180 0 9 (dk_at dksX3_record_2 4 rfl rfl)
theorem dX3_record_52 : decode cX3_record 52 = .ok (.iconst 0, 1) := dk_3 (dk_at dksX3_record_2 7 rfl rfl)
theorem dX3_record_53 : decode cX3_record 53 = .ok (.aload_n 0, 1) := dk_42 (dk_at dksX3_record_2 8 rfl rfl)
theorem dX3_record_54 : decode cX3_record 54 = .ok (.getfield 19, 3) := dk_180 0 19 (dk_at dksX3_record_2 9 rfl rfl)
theorem dX3_record_57 : decode cX3_record 57 = .ok (.aload_n 0, 1) := dk_42 (dk_at dksX3_record_2 12 rfl rfl)
theorem dX3_record_58 : decode cX3_record 58 = .ok (.getfield 373, 3) := dk_180 1 117 (dk_at dksX3_record_2 13 rfl rfl)
theorem dX3_record_61 : decode cX3_record 61 = .ok (.invokestatic 376, 3) := dk_184 1 120 (dk_at dksX3_record_2 16 rfl rfl)
theorem dX3_record_64 : decode cX3_record 64 = .ok (.aload_n 0, 1) := dk_42 (dk_at dksX3_record_2 19 rfl rfl)
theorem dX3_record_65 : decode cX3_record 65 = .ok (.dup, 1) := dk_89 (dk_at dksX3_record_2 20 rfl rfl)
theorem dX3_record_66 : decode cX3_record 66 = .ok (.getfield 373, 3) := dk_180 1 117 (dk_at dksX3_record_2 21 rfl rfl)
theorem dX3_record_69 : decode cX3_record 69 = .ok (.iconst 1, 1) := dk_4 (dk_at dksX3_record_3 0 rfl rfl)
theorem dX3_record_70 : decode cX3_record 70 = .ok (.iadd, 1) := dk_96 (dk_at dksX3_record_3 1 rfl rfl)
theorem dX3_record_71 : decode cX3_record 71 = .ok (.putfield 373, 3) := dk_181 1 117 (dk_at dksX3_record_3 2 rfl rfl)
theorem dX3_record_74 : decode cX3_record 74 = .ok (.return_, 1) := dk_177 (dk_at dksX3_record_3 5 rfl rfl)
/-- PackingDuelModel.record()V -/
def zb237 (G : zPg) (C : zO) (args : List Value) (Q : zQ) (Y : zY) (σ : zS) : Prop := ∃ (a0 : Nat), args = [.ref a0] ∧ (zgI σ (some a0) 4 4 (fun v1 => zJ (fun  (s7 : zS) => zgR s7 (some a0) 4 0 (fun v9 => zgR s7 (some a0) 4 3 (fun v15 => zgI s7 (some a0) 4 4 (fun v21 => zcl C 238 [va_rf v9, .int (0 : Int32), va_rf v15, .int v21] Y s7 (zqV (fun s28 => zgI s28 (some a0) 4 4 (fun v30 => zput s28 G.1 (some a0) 4 4 (.int (v30 + (1 : Int32))) (fun s36 => Q none s36)))))))) (fun (j8 : zS → Prop) => ((¬ v1 = (10 : Int32)) → j8 σ) ∧ ((v1 = (10 : Int32)) → ∃ n, zIt (fun _ _ => False) (fun rec47 (p45 : Int32) (s46 : zS) => (((10 : Int32) ≤ p45) → zgI s46 (some a0) 4 4 (fun v49 => zput s46 G.1 (some a0) 4 4 (.int (v49 - (1 : Int32))) (fun s55 => j8 s55))) ∧ ((¬ (10 : Int32) ≤ p45) → zgR s46 (some a0) 4 3 (fun v63 => zgR s46 (some a0) 4 3 (fun v69 => zcl C 238 [va_rf v63, .int p45, va_rf v69, .int (p45 - (1 : Int32))] Y s46 (zqV (fun s76 => (∀ v78 : Int32, v78 = p45 + (1 : Int32) → rec47 v78 s76))))))) n (1 : Int32) σ))))
set_option maxHeartbeats 4000000 in
theorem wk237 {l : Launch} {g : zG} {d : Nat} {C : zO} (hG : zGk g) (hC : zSound l g d C) {args : List Value} {Q : zQ} {Y : zY} {σ : zS} (hw : zb237 (zpg g) C args Q Y σ) : zMet l g (d + 1) (⟨"PackingDuelModel", "record", "()V"⟩, Cond.code ⟨"PackingDuelModel", "record", "()V"⟩ prog_28_method_104_code 2 (Option.none : Option FieldType)) args σ Q Y := by
  obtain ⟨a0, rfl, hw⟩ := hw
  refine zof hG (by decide +kernel) [false] ⟨rfl, trivial⟩ (Nat.le_of_ble_eq_true rfl) (ls := [some (va_rf (some a0)), none]) rfl ?_
  intro X hX hR hTb hd1 hd2 hl hg hnm
  subst hl
  subst hg
  have hd : zDep X d := ⟨hd1, hd2⟩
  refine z_aload_n hX dX3_record_0 rfl (i := 0) rfl ?_
  obtain ⟨a2, f3, v1, r4, m5, e6, hw⟩ := hw
  refine z_get hX zc4 (k := 4) dX3_record_1 (Nat.le_of_ble_eq_true rfl) (zlk hX q2473) r4 m5 e6 ?_
  refine z_bipush hX (v := (10 : Int32)) dX3_record_4 (by decide) ?_
  refine zJ_w (P := fun (j : zS → Prop) => ∀  (s7 : zS), j  s7 → zW X s7 48 [some (va_rf (some a0)), none] []) hw (fun  s7 hw => ?_) (fun j8 hj8 hw => ?_)
  · refine z_aload_n hX dX3_record_48 rfl (i := 0) rfl ?_
    obtain ⟨a10, f11, v9, r12, m13, e14, hw⟩ := hw
    refine z_get hX zc4 (k := 0) dX3_record_49 (Nat.le_of_ble_eq_true rfl) (zlk hX q2469) r12 m13 e14 ?_
    refine z_iconst hX (v := (0 : Int32)) dX3_record_52 (by decide) ?_
    refine z_aload_n hX dX3_record_53 rfl (i := 0) rfl ?_
    obtain ⟨a16, f17, v15, r18, m19, e20, hw⟩ := hw
    refine z_get hX zc4 (k := 3) dX3_record_54 (Nat.le_of_ble_eq_true rfl) (zlk hX q2472) r18 m19 e20 ?_
    refine z_aload_n hX dX3_record_57 rfl (i := 0) rfl ?_
    obtain ⟨a22, f23, v21, r24, m25, e26, hw⟩ := hw
    refine z_get hX zc4 (k := 4) dX3_record_58 (Nat.le_of_ble_eq_true rfl) (zlk hX q2473) r24 m25 e26 ?_
    refine z_invS hX hd dX3_record_61 (hC 238 _ zm238 _ _ _ _ hw) q2915 q2916 zh7 q2917 q136 zn238 rfl (Nat.le_of_ble_eq_true rfl) (st := []) rfl (zcs8 (Nat.le_of_ble_eq_true rfl)) rfl (zkV (fun s28 hw => ?_)) (zout hX hR hTb)
    refine z_aload_n hX dX3_record_64 rfl (i := 0) rfl ?_
    refine z_dup hX dX3_record_65 (zc_rf _) ?_
    obtain ⟨a31, f32, v30, r33, m34, e35, hw⟩ := hw
    refine z_get hX zc4 (k := 4) dX3_record_66 (Nat.le_of_ble_eq_true rfl) (zlk hX q2473) r33 m34 e35 ?_
    refine z_iconst hX (v := (1 : Int32)) dX3_record_69 (by decide) ?_
    refine z_iadd hX dX3_record_70 ?_
    obtain ⟨a38, f39, r40, g41, m42, l43, hw⟩ := hw
    refine z_put hX zc4 (k := 4) dX3_record_71 (Nat.le_of_ble_eq_true rfl) (zlk hX q2473) rfl rfl rfl r40 g41 m42 l43 (z_nm (fun s36 e37 => ?_))
    have hw := hw s36 e37
    exact z_return hX hR dX3_record_74 hw
  · refine z_icmp_ne hX dX3_record_6 (tgt := 48) rfl (fun c44 => ?_) (fun c44 => ?_)
    · have hw := hw.1 c44
      exact hj8  _ hw
    · have hw := hw.2 c44
      refine z_iconst hX (v := (1 : Int32)) dX3_record_9 (by decide) ?_
      refine z_istore_n hX dX3_record_10 rfl (i := 1) (Nat.le_of_ble_eq_true rfl) (zc_rf _) (ls2 := [some (va_rf (some a0)), some (.int (1 : Int32))]) rfl ?_
      obtain ⟨n80, hw⟩ := hw
      refine zIt_w (P := fun (j : Int32 → zS → Prop) => ∀ (p45 : Int32) (s46 : zS), j p45 s46 → zW X s46 11 [some (va_rf (some a0)), some (.int p45)] []) (fun _ _ h => h.elim) (fun rec47 hrec47 p45 s46 hw => ?_) n80 _ _ hw
      refine z_iload_n hX dX3_record_11 rfl (i := 1) rfl ?_
      refine z_bipush hX (v := (10 : Int32)) dX3_record_12 (by decide) ?_
      refine z_icmp_ge hX dX3_record_14 (tgt := 38) rfl (fun c48 => ?_) (fun c48 => ?_)
      · have hw := hw.1 c48
        refine z_aload_n hX dX3_record_38 rfl (i := 0) rfl ?_
        refine z_dup hX dX3_record_39 (zc_rf _) ?_
        obtain ⟨a50, f51, v49, r52, m53, e54, hw⟩ := hw
        refine z_get hX zc4 (k := 4) dX3_record_40 (Nat.le_of_ble_eq_true rfl) (zlk hX q2473) r52 m53 e54 ?_
        refine z_iconst hX (v := (1 : Int32)) dX3_record_43 (by decide) ?_
        refine z_isub hX dX3_record_44 ?_
        obtain ⟨a57, f58, r59, g60, m61, l62, hw⟩ := hw
        refine z_put hX zc4 (k := 4) dX3_record_45 (Nat.le_of_ble_eq_true rfl) (zlk hX q2473) rfl rfl rfl r59 g60 m61 l62 (z_nm (fun s55 e56 => ?_))
        have hw := hw s55 e56
        refine z_sub (ls' := [some (va_rf (some a0)), none]) (zsS (zsN (zs0))) ?_
        exact hj8  _ hw
      · have hw := hw.2 c48
        refine z_aload_n hX dX3_record_17 rfl (i := 0) rfl ?_
        obtain ⟨a64, f65, v63, r66, m67, e68, hw⟩ := hw
        refine z_get hX zc4 (k := 3) dX3_record_18 (Nat.le_of_ble_eq_true rfl) (zlk hX q2472) r66 m67 e68 ?_
        refine z_iload_n hX dX3_record_21 rfl (i := 1) rfl ?_
        refine z_aload_n hX dX3_record_22 rfl (i := 0) rfl ?_
        obtain ⟨a70, f71, v69, r72, m73, e74, hw⟩ := hw
        refine z_get hX zc4 (k := 3) dX3_record_23 (Nat.le_of_ble_eq_true rfl) (zlk hX q2472) r72 m73 e74 ?_
        refine z_iload_n hX dX3_record_26 rfl (i := 1) rfl ?_
        refine z_iconst hX (v := (1 : Int32)) dX3_record_27 (by decide) ?_
        refine z_isub hX dX3_record_28 ?_
        refine z_invS hX hd dX3_record_29 (hC 238 _ zm238 _ _ _ _ hw) q2915 q2916 zh7 q2917 q136 zn238 rfl (Nat.le_of_ble_eq_true rfl) (st := []) rfl (zcs8 (Nat.le_of_ble_eq_true rfl)) rfl (zkV (fun s76 hw => ?_)) (zout hX hR hTb)
        obtain ⟨v78, e79⟩ : ∃ y : Int32, y = p45 + (1 : Int32) := ⟨_, rfl⟩
        refine z_iinc hX dX3_record_32 (i := 1) (v := v78) rfl (by rw [e79]; rfl) (Nat.le_of_ble_eq_true rfl) (zc_rf _) (ls2 := [some (va_rf (some a0)), some (.int v78)]) rfl ?_
        have hw := hw v78 e79
        refine z_goto hX dX3_record_35 (tgt := 11) rfl ?_
        exact hrec47 _ _ hw
abbrev cX3_copy : ByteArray := prog_28_method_103_code
def yX3_copy : MethodName := ⟨RX3, "copy", "([II[II)V"⟩
def dkwX3_copy_1 : List UInt8 := [21, 4, 96, 46, 79, 132, 4, 1, 167, 255, 228, 177]
abbrev dktX3_copy_1 : List UInt8 := dkwX3_copy_1 ++ []
def dkwX3_copy_0 : List UInt8 := [3, 54, 4, 21, 4, 16, 61, 162, 0, 27, 44, 16, 61, 29, 104, 21, 4, 96, 42, 16, 61, 27, 104]
abbrev dktX3_copy_0 : List UInt8 := dkwX3_copy_0 ++ dktX3_copy_1
theorem dksX3_copy_0 : cX3_copy.data.toList.drop 0 = dktX3_copy_0 := by decide +kernel
theorem dksX3_copy_1 : cX3_copy.data.toList.drop 23 = dktX3_copy_1 := dk_seg dksX3_copy_0 23 rfl rfl
theorem dX3_copy_0 : decode cX3_copy 0 = .ok (.iconst 0, 1) := dk_3 (dk_at dksX3_copy_0 0 rfl rfl)
theorem dX3_copy_1 : decode cX3_copy 1 = .ok (.istore 4, 2) := dk_54 4 (dk_at dksX3_copy_0 1 rfl rfl)
theorem dX3_copy_3 : decode cX3_copy 3 = .ok (.iload 4, 2) := dk_21 4 (dk_at dksX3_copy_0 3 rfl rfl)
theorem dX3_copy_5 : decode cX3_copy 5 = .ok (.bipush 61, 2) := dk_16 61 (dk_at dksX3_copy_0 5 rfl rfl)
theorem dX3_copy_7 : decode cX3_copy 7 = .ok (.if_icmp .ge 27, 3) := dk_162 0 27 (dk_at dksX3_copy_0 7 rfl rfl)
theorem dX3_copy_10 : decode cX3_copy 10 = .ok (.aload_n 2, 1) := dk_44 (dk_at dksX3_copy_0 10 rfl rfl)
theorem dX3_copy_11 : decode cX3_copy 11 = .ok (.bipush 61, 2) := dk_16 61 (dk_at dksX3_copy_0 11 rfl rfl)
theorem dX3_copy_13 : decode cX3_copy 13 = .ok (.iload_n 3, 1) := dk_29 (dk_at dksX3_copy_0 13 rfl rfl)
theorem dX3_copy_14 : decode cX3_copy 14 = .ok (.imul, 1) := dk_104 (dk_at dksX3_copy_0 14 rfl rfl)
theorem dX3_copy_15 : decode cX3_copy 15 = .ok (.iload 4, 2) := dk_21 4 (dk_at dksX3_copy_0 15 rfl rfl)
theorem dX3_copy_17 : decode cX3_copy 17 = .ok (.iadd, 1) := dk_96 (dk_at dksX3_copy_0 17 rfl rfl)
theorem dX3_copy_18 : decode cX3_copy 18 = .ok (.aload_n 0, 1) := dk_42 (dk_at dksX3_copy_0 18 rfl rfl)
theorem dX3_copy_19 : decode cX3_copy 19 = .ok (.bipush 61, 2) := dk_16 61 (dk_at dksX3_copy_0 19 rfl rfl)
theorem dX3_copy_21 : decode cX3_copy 21 = .ok (.iload_n 1, 1) := dk_27 (dk_at dksX3_copy_0 21 rfl rfl)
theorem dX3_copy_22 : decode cX3_copy 22 = .ok (.imul, 1) := dk_104 (dk_at dksX3_copy_0 22 rfl rfl)
theorem dX3_copy_23 : decode cX3_copy 23 = .ok (.iload 4, 2) := dk_21 4 (dk_at dksX3_copy_1 0 rfl rfl)
theorem dX3_copy_25 : decode cX3_copy 25 = .ok (.iadd, 1) := dk_96 (dk_at dksX3_copy_1 2 rfl rfl)
theorem dX3_copy_26 : decode cX3_copy 26 = .ok (.iaload, 1) := dk_46 (dk_at dksX3_copy_1 3 rfl rfl)
theorem dX3_copy_27 : decode cX3_copy 27 = .ok (.iastore, 1) := dk_79 (dk_at dksX3_copy_1 4 rfl rfl)
theorem dX3_copy_28 : decode cX3_copy 28 = .ok (.iinc 4 1, 3) := dk_132 4 1 (dk_at dksX3_copy_1 5 rfl rfl)
theorem dX3_copy_31 : decode cX3_copy 31 = .ok (.goto (-28), 3) := dk_167 255 228 (dk_at dksX3_copy_1 8 rfl rfl)
theorem dX3_copy_34 : decode cX3_copy 34 = .ok (.return_, 1) := dk_177 (dk_at dksX3_copy_1 11 rfl rfl)
/-- PackingDuelModel.copy([II[II)V -/
def zb238 (G : zPg) (C : zO) (args : List Value) (Q : zQ) (Y : zY) (σ : zS) : Prop := ∃ (x1 : Option Nat) (x2 : Int32) (x3 : Option Nat) (x4 : Int32), args = [va_rf x1, .int x2, va_rf x3, .int x4] ∧ (∃ n, zIt (fun _ _ => False) (fun rec3 (p1 : Int32) (s2 : zS) => (((61 : Int32) ≤ p1) → Q none s2) ∧ ((¬ (61 : Int32) ≤ p1) → zaI s2 0 x1 (((61 : Int32) * x2) + p1) (fun v11 => zsI s2 G.1 0 x3 (((61 : Int32) * x4) + p1) v11 (fun s20 => (∀ v22 : Int32, v22 = p1 + (1 : Int32) → rec3 v22 s20))))) n (0 : Int32) σ)
set_option maxHeartbeats 4000000 in
theorem wk238 {l : Launch} {g : zG} {d : Nat} {C : zO} (hG : zGk g) (hC : zSound l g d C) {args : List Value} {Q : zQ} {Y : zY} {σ : zS} (hw : zb238 (zpg g) C args Q Y σ) : zMet l g (d + 1) (⟨"PackingDuelModel", "copy", "([II[II)V"⟩, Cond.code ⟨"PackingDuelModel", "copy", "([II[II)V"⟩ prog_28_method_103_code 5 (Option.none : Option FieldType)) args σ Q Y := by
  obtain ⟨x1, x2, x3, x4, rfl, hw⟩ := hw
  refine zof hG (by decide +kernel) [false, false, false, false] ⟨(zc_rf _), rfl, (zc_rf _), rfl, trivial⟩ (Nat.le_of_ble_eq_true rfl) (ls := [some (va_rf x1), some (.int x2), some (va_rf x3), some (.int x4), none]) rfl ?_
  intro X hX hR hTb hd1 hd2 hl hg hnm
  subst hl
  subst hg
  have hd : zDep X d := ⟨hd1, hd2⟩
  refine z_iconst hX (v := (0 : Int32)) dX3_copy_0 (by decide) ?_
  refine z_istore hX dX3_copy_1 (i := 4) (Nat.le_of_ble_eq_true rfl) rfl (ls2 := [some (va_rf x1), some (.int x2), some (va_rf x3), some (.int x4), some (.int (0 : Int32))]) rfl ?_
  obtain ⟨n24, hw⟩ := hw
  refine zIt_w (P := fun (j : Int32 → zS → Prop) => ∀ (p1 : Int32) (s2 : zS), j p1 s2 → zW X s2 3 [some (va_rf x1), some (.int x2), some (va_rf x3), some (.int x4), some (.int p1)] []) (fun _ _ h => h.elim) (fun rec3 hrec3 p1 s2 hw => ?_) n24 _ _ hw
  refine z_iload hX dX3_copy_3 (i := 4) rfl ?_
  refine z_bipush hX (v := (61 : Int32)) dX3_copy_5 (by decide) ?_
  refine z_icmp_ge hX dX3_copy_7 (tgt := 34) rfl (fun c4 => ?_) (fun c4 => ?_)
  · have hw := hw.1 c4
    exact z_return hX hR dX3_copy_34 hw
  · have hw := hw.2 c4
    refine z_aload_n hX dX3_copy_10 rfl (i := 2) rfl ?_
    refine z_bipush hX (v := (61 : Int32)) dX3_copy_11 (by decide) ?_
    refine z_iload_n hX dX3_copy_13 rfl (i := 3) rfl ?_
    refine z_imul hX dX3_copy_14 ?_
    refine z_iload hX dX3_copy_15 (i := 4) rfl ?_
    refine z_iadd hX dX3_copy_17 ?_
    refine z_aload_n hX dX3_copy_18 rfl (i := 0) rfl ?_
    refine z_bipush hX (v := (61 : Int32)) dX3_copy_19 (by decide) ?_
    refine z_iload_n hX dX3_copy_21 rfl (i := 1) rfl ?_
    refine z_imul hX dX3_copy_22 ?_
    refine z_iload hX dX3_copy_23 (i := 4) rfl ?_
    refine z_iadd hX dX3_copy_25 ?_
    obtain ⟨a5, n6, f7, r8, m9, i10, hw⟩ := hw
    refine z_iald hX dX3_copy_26 r8 m9 i10 ?_
    revert hw
    generalize f7 (Int32.toNatClampNeg (((61 : Int32) * x2) + p1)) = v11
    intro hw
    obtain ⟨a13, n14, f15, r16, g17, m18, i19, hw⟩ := hw
    refine z_iast hX dX3_copy_27 r16 g17 m18 i19 (z_nm (fun s20 e21 => ?_))
    have hw := hw s20 e21
    obtain ⟨v22, e23⟩ : ∃ y : Int32, y = p1 + (1 : Int32) := ⟨_, rfl⟩
    refine z_iinc hX dX3_copy_28 (i := 4) (v := v22) rfl (by rw [e23]; rfl) (Nat.le_of_ble_eq_true rfl) rfl (ls2 := [some (va_rf x1), some (.int x2), some (va_rf x3), some (.int x4), some (.int v22)]) rfl ?_
    have hw := hw v22 e23
    refine z_goto hX dX3_copy_31 (tgt := 3) rfl ?_
    exact hrec3 _ _ hw
abbrev cX3_beginGame : ByteArray := prog_28_method_61_code
def yX3_beginGame : MethodName := ⟨RX3, "beginGame", "()V"⟩
def dkwX3_beginGame_0 : List UInt8 := [16, 6, 60, 27, 16, 10, 163, 0, 16, 42, 180, 0, 9, 27, 3, 79, 132, 1, 1, 167, 255, 240, 177]
abbrev dktX3_beginGame_0 : List UInt8 := dkwX3_beginGame_0 ++ []
theorem dksX3_beginGame_0 : cX3_beginGame.data.toList.drop 0 = dktX3_beginGame_0 := by decide +kernel
theorem dX3_beginGame_0 : decode cX3_beginGame 0 = .ok (.bipush 6, 2) := dk_16 6 (dk_at dksX3_beginGame_0 0 rfl rfl)
theorem dX3_beginGame_2 : decode cX3_beginGame 2 = .ok (.istore_n 1, 1) := dk_60 (dk_at dksX3_beginGame_0 2 rfl rfl)
theorem dX3_beginGame_3 : decode cX3_beginGame 3 = .ok (.iload_n 1, 1) := dk_27 (dk_at dksX3_beginGame_0 3 rfl rfl)
theorem dX3_beginGame_4 : decode cX3_beginGame 4 = .ok (.bipush 10, 2) := dk_16 10 (dk_at dksX3_beginGame_0 4 rfl rfl)
theorem dX3_beginGame_6 : decode cX3_beginGame 6 = .ok (.if_icmp .gt 16, 3) := dk_163 0 16 (dk_at dksX3_beginGame_0 6 rfl rfl)
theorem dX3_beginGame_9 : decode cX3_beginGame 9 = .ok (.aload_n 0, 1) := dk_42 (dk_at dksX3_beginGame_0 9 rfl rfl)
theorem dX3_beginGame_10 : decode cX3_beginGame 10 = .ok (.getfield 9, 3) := dk_180 0 9 (dk_at dksX3_beginGame_0 10 rfl rfl)
theorem dX3_beginGame_13 : decode cX3_beginGame 13 = .ok (.iload_n 1, 1) := dk_27 (dk_at dksX3_beginGame_0 13 rfl rfl)
theorem dX3_beginGame_14 : decode cX3_beginGame 14 = .ok (.iconst 0, 1) := dk_3 (dk_at dksX3_beginGame_0 14 rfl rfl)
theorem dX3_beginGame_15 : decode cX3_beginGame 15 = .ok (.iastore, 1) := dk_79 (dk_at dksX3_beginGame_0 15 rfl rfl)
theorem dX3_beginGame_16 : decode cX3_beginGame 16 = .ok (.iinc 1 1, 3) := dk_132 1 1 (dk_at dksX3_beginGame_0 16 rfl rfl)
theorem dX3_beginGame_19 : decode cX3_beginGame 19 = .ok (.goto (-16), 3) := dk_167 255 240 (dk_at dksX3_beginGame_0 19 rfl rfl)
theorem dX3_beginGame_22 : decode cX3_beginGame 22 = .ok (.return_, 1) := dk_177 (dk_at dksX3_beginGame_0 22 rfl rfl)
/-- PackingDuelModel.beginGame()V -/
def zb239 (G : zPg) (C : zO) (args : List Value) (Q : zQ) (Y : zY) (σ : zS) : Prop := ∃ (a0 : Nat), args = [.ref a0] ∧ (∃ n, zIt (fun _ _ => False) (fun rec3 (p1 : Int32) (s2 : zS) => (((10 : Int32) < p1) → Q none s2) ∧ ((¬ (10 : Int32) < p1) → zgR s2 (some a0) 4 0 (fun v5 => zsI s2 G.1 0 v5 p1 (0 : Int32) (fun s18 => (∀ v20 : Int32, v20 = p1 + (1 : Int32) → rec3 v20 s18))))) n (6 : Int32) σ)
set_option maxHeartbeats 4000000 in
theorem wk239 {l : Launch} {g : zG} {d : Nat} {C : zO} (hG : zGk g) (hC : zSound l g d C) {args : List Value} {Q : zQ} {Y : zY} {σ : zS} (hw : zb239 (zpg g) C args Q Y σ) : zMet l g (d + 1) (⟨"PackingDuelModel", "beginGame", "()V"⟩, Cond.code ⟨"PackingDuelModel", "beginGame", "()V"⟩ prog_28_method_61_code 2 (Option.none : Option FieldType)) args σ Q Y := by
  obtain ⟨a0, rfl, hw⟩ := hw
  refine zof hG (by decide +kernel) [false] ⟨rfl, trivial⟩ (Nat.le_of_ble_eq_true rfl) (ls := [some (va_rf (some a0)), none]) rfl ?_
  intro X hX hR hTb hd1 hd2 hl hg hnm
  subst hl
  subst hg
  have hd : zDep X d := ⟨hd1, hd2⟩
  refine z_bipush hX (v := (6 : Int32)) dX3_beginGame_0 (by decide) ?_
  refine z_istore_n hX dX3_beginGame_2 rfl (i := 1) (Nat.le_of_ble_eq_true rfl) (zc_rf _) (ls2 := [some (va_rf (some a0)), some (.int (6 : Int32))]) rfl ?_
  obtain ⟨n22, hw⟩ := hw
  refine zIt_w (P := fun (j : Int32 → zS → Prop) => ∀ (p1 : Int32) (s2 : zS), j p1 s2 → zW X s2 3 [some (va_rf (some a0)), some (.int p1)] []) (fun _ _ h => h.elim) (fun rec3 hrec3 p1 s2 hw => ?_) n22 _ _ hw
  refine z_iload_n hX dX3_beginGame_3 rfl (i := 1) rfl ?_
  refine z_bipush hX (v := (10 : Int32)) dX3_beginGame_4 (by decide) ?_
  refine z_icmp_gt hX dX3_beginGame_6 (tgt := 22) rfl (fun c4 => ?_) (fun c4 => ?_)
  · have hw := hw.1 c4
    exact z_return hX hR dX3_beginGame_22 hw
  · have hw := hw.2 c4
    refine z_aload_n hX dX3_beginGame_9 rfl (i := 0) rfl ?_
    obtain ⟨a6, f7, v5, r8, m9, e10, hw⟩ := hw
    refine z_get hX zc4 (k := 0) dX3_beginGame_10 (Nat.le_of_ble_eq_true rfl) (zlk hX q2469) r8 m9 e10 ?_
    refine z_iload_n hX dX3_beginGame_13 rfl (i := 1) rfl ?_
    refine z_iconst hX (v := (0 : Int32)) dX3_beginGame_14 (by decide) ?_
    obtain ⟨a11, n12, f13, r14, g15, m16, i17, hw⟩ := hw
    refine z_iast hX dX3_beginGame_15 r14 g15 m16 i17 (z_nm (fun s18 e19 => ?_))
    have hw := hw s18 e19
    obtain ⟨v20, e21⟩ : ∃ y : Int32, y = p1 + (1 : Int32) := ⟨_, rfl⟩
    refine z_iinc hX dX3_beginGame_16 (i := 1) (v := v20) rfl (by rw [e21]; rfl) (Nat.le_of_ble_eq_true rfl) (zc_rf _) (ls2 := [some (va_rf (some a0)), some (.int v20)]) rfl ?_
    have hw := hw v20 e21
    refine z_goto hX dX3_beginGame_19 (tgt := 3) rfl ?_
    exact hrec3 _ _ hw
abbrev cX3_removeTooHeavy : ByteArray := prog_28_method_30_code
def yX3_removeTooHeavy : MethodName := ⟨RX3, "removeTooHeavy", "(Z)V"⟩
def dkwX3_removeTooHeavy_1 : List UInt8 := [156, 0, 9, 42, 27, 28, 182, 0, 164, 132, 2, 255, 167, 255, 230, 177]
abbrev dktX3_removeTooHeavy_1 : List UInt8 := dkwX3_removeTooHeavy_1 ++ []
def dkwX3_removeTooHeavy_0 : List UInt8 := [42, 27, 182, 0, 158, 4, 100, 61, 28, 155, 0, 28, 42, 42, 27, 28, 182, 0, 161, 182, 0, 125]
abbrev dktX3_removeTooHeavy_0 : List UInt8 := dkwX3_removeTooHeavy_0 ++ dktX3_removeTooHeavy_1
theorem dksX3_removeTooHeavy_0 : cX3_removeTooHeavy.data.toList.drop 0 = dktX3_removeTooHeavy_0 := by decide +kernel
theorem dksX3_removeTooHeavy_1 : cX3_removeTooHeavy.data.toList.drop 22 = dktX3_removeTooHeavy_1 := dk_seg dksX3_removeTooHeavy_0 22 rfl rfl
theorem dX3_removeTooHeavy_0 : decode cX3_removeTooHeavy 0 = .ok (.aload_n 0, 1) := dk_42 (dk_at dksX3_removeTooHeavy_0 0 rfl rfl)
theorem dX3_removeTooHeavy_1 : decode cX3_removeTooHeavy 1 = .ok (.iload_n 1, 1) := dk_27 (dk_at dksX3_removeTooHeavy_0 1 rfl rfl)
theorem dX3_removeTooHeavy_2 : decode cX3_removeTooHeavy 2 = .ok (.invokevirtual 158, 3) := dk_182 0 158 (dk_at dksX3_removeTooHeavy_0 2 rfl rfl)
theorem dX3_removeTooHeavy_5 : decode cX3_removeTooHeavy 5 = .ok (.iconst 1, 1) := dk_4 (dk_at dksX3_removeTooHeavy_0 5 rfl rfl)
theorem dX3_removeTooHeavy_6 : decode cX3_removeTooHeavy 6 = .ok (.isub, 1) := dk_100 (dk_at dksX3_removeTooHeavy_0 6 rfl rfl)
theorem dX3_removeTooHeavy_7 : decode cX3_removeTooHeavy 7 = .ok (.istore_n 2, 1) := dk_61 (dk_at dksX3_removeTooHeavy_0 7 rfl rfl)
theorem dX3_removeTooHeavy_8 : decode cX3_removeTooHeavy 8 = .ok (.iload_n 2, 1) := dk_28 (dk_at dksX3_removeTooHeavy_0 8 rfl rfl)
theorem dX3_removeTooHeavy_9 : decode cX3_removeTooHeavy 9 = .ok (.ifCond .lt 28, 3) := dk_155 0 28 (dk_at dksX3_removeTooHeavy_0 9 rfl rfl)
theorem dX3_removeTooHeavy_12 : decode cX3_removeTooHeavy 12 = .ok (.aload_n 0, 1) := dk_42 (dk_at dksX3_removeTooHeavy_0 12 rfl rfl)
theorem dX3_removeTooHeavy_13 : decode cX3_removeTooHeavy 13 = .ok (.aload_n 0, 1) := dk_42 (dk_at dksX3_removeTooHeavy_0 13 rfl rfl)
theorem dX3_removeTooHeavy_14 : decode cX3_removeTooHeavy 14 = .ok (.iload_n 1, 1) := dk_27 (dk_at dksX3_removeTooHeavy_0 14 rfl rfl)
theorem dX3_removeTooHeavy_15 : decode cX3_removeTooHeavy 15 = .ok (.iload_n 2, 1) := dk_28 (dk_at dksX3_removeTooHeavy_0 15 rfl rfl)
theorem dX3_removeTooHeavy_16 : decode cX3_removeTooHeavy 16 = .ok (.invokevirtual 161, 3) := dk_182 0 161 (dk_at dksX3_removeTooHeavy_0 16 rfl rfl)
theorem dX3_removeTooHeavy_19 : decode cX3_removeTooHeavy 19 = .ok (.invokevirtual 125, 3) := dk_182 0 125 (dk_at dksX3_removeTooHeavy_0 19 rfl rfl)
theorem dX3_removeTooHeavy_22 : decode cX3_removeTooHeavy 22 = .ok (.ifCond .ge 9, 3) := dk_156 0 9 (dk_at dksX3_removeTooHeavy_1 0 rfl rfl)
theorem dX3_removeTooHeavy_25 : decode cX3_removeTooHeavy 25 = .ok (.aload_n 0, 1) := dk_42 (dk_at dksX3_removeTooHeavy_1 3 rfl rfl)
theorem dX3_removeTooHeavy_26 : decode cX3_removeTooHeavy 26 = .ok (.iload_n 1, 1) := dk_27 (dk_at dksX3_removeTooHeavy_1 4 rfl rfl)
theorem dX3_removeTooHeavy_27 : decode cX3_removeTooHeavy 27 = .ok (.iload_n 2, 1) := dk_28 (dk_at dksX3_removeTooHeavy_1 5 rfl rfl)
theorem dX3_removeTooHeavy_28 : decode cX3_removeTooHeavy 28 = .ok (.invokevirtual 164, 3) := dk_182 0 164 (dk_at dksX3_removeTooHeavy_1 6 rfl rfl)
theorem dX3_removeTooHeavy_31 : decode cX3_removeTooHeavy 31 = .ok (.iinc 2 (-1), 3) := dk_132 2 255 (dk_at dksX3_removeTooHeavy_1 9 rfl rfl)
theorem dX3_removeTooHeavy_34 : decode cX3_removeTooHeavy 34 = .ok (.goto (-26), 3) := dk_167 255 230 (dk_at dksX3_removeTooHeavy_1 12 rfl rfl)
theorem dX3_removeTooHeavy_37 : decode cX3_removeTooHeavy 37 = .ok (.return_, 1) := dk_177 (dk_at dksX3_removeTooHeavy_1 15 rfl rfl)
/-- PackingDuelModel.removeTooHeavy(Z)V -/
def zb240 (G : zPg) (C : zO) (args : List Value) (Q : zQ) (Y : zY) (σ : zS) : Prop := ∃ (a0 : Nat) (x1 : Int32), args = [.ref a0, .int x1] ∧ (zrc σ (some a0) 4 (fun a4 => zcl C 189 [.ref a4, .int x1] Y σ (zqI (fun v1 s2 => ∃ n, zIt (fun _ _ => False) (fun rec10 (p8 : Int32) (s9 : zS) => ((p8 < 0) → Q none s9) ∧ ((¬ p8 < 0) → zrc s9 (some a0) 4 (fun a15 => zcl C 191 [.ref a15, .int x1, .int p8] Y s9 (zqI (fun v12 s13 => zrc s13 (some a0) 4 (fun a22 => zcl C 160 [.ref a22, .int v12] Y s13 (zqI (fun v19 s20 => zJ (fun  (s26 : zS) => (∀ v28 : Int32, v28 = p8 + (-1 : Int32) → rec10 v28 s26)) (fun (j27 : zS → Prop) => ((0 ≤ v19) → j27 s20) ∧ ((¬ 0 ≤ v19) → zrc s20 (some a0) 4 (fun a34 => zcl C 241 [.ref a34, .int x1, .int p8] Y s20 (zqV (fun s32 => j27 s32))))))))))))) n (v1 - (1 : Int32)) s2))))
set_option maxHeartbeats 4000000 in
theorem wk240 {l : Launch} {g : zG} {d : Nat} {C : zO} (hG : zGk g) (hC : zSound l g d C) {args : List Value} {Q : zQ} {Y : zY} {σ : zS} (hw : zb240 (zpg g) C args Q Y σ) : zMet l g (d + 1) (⟨"PackingDuelModel", "removeTooHeavy", "(Z)V"⟩, Cond.code ⟨"PackingDuelModel", "removeTooHeavy", "(Z)V"⟩ prog_28_method_30_code 3 (Option.none : Option FieldType)) args σ Q Y := by
  obtain ⟨a0, x1, rfl, hw⟩ := hw
  refine zof hG (by decide +kernel) [false, false] ⟨rfl, rfl, trivial⟩ (Nat.le_of_ble_eq_true rfl) (ls := [some (va_rf (some a0)), some (.int x1), none]) rfl ?_
  intro X hX hR hTb hd1 hd2 hl hg hnm
  subst hl
  subst hg
  have hd : zDep X d := ⟨hd1, hd2⟩
  refine z_aload_n hX dX3_removeTooHeavy_0 rfl (i := 0) rfl ?_
  refine z_iload_n hX dX3_removeTooHeavy_1 rfl (i := 1) rfl ?_
  obtain ⟨a4, f5, r6, m7, hw⟩ := hw
  refine z_invV hX hd r6 (ci := 4) rfl rfl m7 dX3_removeTooHeavy_2 (hC 189 _ zm189 _ _ _ _ hw) q2723 q2725 qs65 zh7 q2726 q136 zn189 rfl (Nat.le_of_ble_eq_true rfl) (st := []) rfl (zcs8 (Nat.le_of_ble_eq_true rfl)) rfl (zkI (fun v1 s2 hw => ?_)) (zout hX hR hTb)
  refine z_iconst hX (v := (1 : Int32)) dX3_removeTooHeavy_5 (by decide) ?_
  refine z_isub hX dX3_removeTooHeavy_6 ?_
  refine z_istore_n hX dX3_removeTooHeavy_7 rfl (i := 2) (Nat.le_of_ble_eq_true rfl) rfl (ls2 := [some (va_rf (some a0)), some (.int x1), some (.int (v1 - (1 : Int32)))]) rfl ?_
  obtain ⟨n38, hw⟩ := hw
  refine zIt_w (P := fun (j : Int32 → zS → Prop) => ∀ (p8 : Int32) (s9 : zS), j p8 s9 → zW X s9 8 [some (va_rf (some a0)), some (.int x1), some (.int p8)] []) (fun _ _ h => h.elim) (fun rec10 hrec10 p8 s9 hw => ?_) n38 _ _ hw
  refine z_iload_n hX dX3_removeTooHeavy_8 rfl (i := 2) rfl ?_
  refine z_if_lt hX dX3_removeTooHeavy_9 (tgt := 37) rfl (fun c11 => ?_) (fun c11 => ?_)
  · have hw := hw.1 c11
    exact z_return hX hR dX3_removeTooHeavy_37 hw
  · have hw := hw.2 c11
    refine z_aload_n hX dX3_removeTooHeavy_12 rfl (i := 0) rfl ?_
    refine z_aload_n hX dX3_removeTooHeavy_13 rfl (i := 0) rfl ?_
    refine z_iload_n hX dX3_removeTooHeavy_14 rfl (i := 1) rfl ?_
    refine z_iload_n hX dX3_removeTooHeavy_15 rfl (i := 2) rfl ?_
    obtain ⟨a15, f16, r17, m18, hw⟩ := hw
    refine z_invV hX hd r17 (ci := 4) rfl rfl m18 dX3_removeTooHeavy_16 (hC 191 _ zm191 _ _ _ _ hw) q2730 q2732 qs66 zh7 q2733 q136 zn191 rfl (Nat.le_of_ble_eq_true rfl) (st := [va_rf (some a0)]) rfl (zcs8 (Nat.le_of_ble_eq_true rfl)) rfl (zkI (fun v12 s13 hw => ?_)) (zout hX hR hTb)
    obtain ⟨a22, f23, r24, m25, hw⟩ := hw
    refine z_invV hX hd r24 (ci := 4) rfl rfl m25 dX3_removeTooHeavy_19 (hC 160 _ zm160 _ _ _ _ hw) q2609 q2611 qs47 zh7 q2612 q136 zn160 rfl (Nat.le_of_ble_eq_true rfl) (st := []) rfl (zcs8 (Nat.le_of_ble_eq_true rfl)) rfl (zkI (fun v19 s20 hw => ?_)) (zout hX hR hTb)
    refine zJ_w (P := fun (j : zS → Prop) => ∀  (s26 : zS), j  s26 → zW X s26 31 [some (va_rf (some a0)), some (.int x1), some (.int p8)] []) hw (fun  s26 hw => ?_) (fun j27 hj27 hw => ?_)
    · obtain ⟨v28, e29⟩ : ∃ y : Int32, y = p8 + (-1 : Int32) := ⟨_, rfl⟩
      refine z_iinc hX dX3_removeTooHeavy_31 (i := 2) (v := v28) rfl (by rw [e29]; rfl) (Nat.le_of_ble_eq_true rfl) rfl (ls2 := [some (va_rf (some a0)), some (.int x1), some (.int v28)]) rfl ?_
      have hw := hw v28 e29
      refine z_goto hX dX3_removeTooHeavy_34 (tgt := 8) rfl ?_
      exact hrec10 _ _ hw
    · refine z_if_ge hX dX3_removeTooHeavy_22 (tgt := 31) rfl (fun c30 => ?_) (fun c30 => ?_)
      · have hw := hw.1 c30
        exact hj27  _ hw
      · have hw := hw.2 c30
        refine z_aload_n hX dX3_removeTooHeavy_25 rfl (i := 0) rfl ?_
        refine z_iload_n hX dX3_removeTooHeavy_26 rfl (i := 1) rfl ?_
        refine z_iload_n hX dX3_removeTooHeavy_27 rfl (i := 2) rfl ?_
        obtain ⟨a34, f35, r36, m37, hw⟩ := hw
        refine z_invV hX hd r36 (ci := 4) rfl rfl m37 dX3_removeTooHeavy_28 (hC 241 _ zm241 _ _ _ _ hw) q2926 q2928 qs96 zh7 q2929 q136 zn241 rfl (Nat.le_of_ble_eq_true rfl) (st := []) rfl (zcs8 (Nat.le_of_ble_eq_true rfl)) rfl (zkV (fun s32 hw => ?_)) (zout hX hR hTb)
        exact hj27  _ hw
abbrev cX3_removeListed : ByteArray := prog_28_method_29_code
def yX3_removeListed : MethodName := ⟨RX3, "removeListed", "(ZI)V"⟩
def dkwX3_removeListed_2 : List UInt8 := [132, 3, 1, 167, 255, 222, 42, 180, 0, 9, 27, 42, 27, 182, 0, 158, 184, 0, 154, 3, 79, 177]
abbrev dktX3_removeListed_2 : List UInt8 := dkwX3_removeListed_2 ++ []
def dkwX3_removeListed_1 : List UInt8 := [42, 180, 0, 9, 27, 29, 184, 0, 154, 42, 180, 0, 9, 27, 29, 4, 96, 184, 0, 154, 46, 79]
abbrev dktX3_removeListed_1 : List UInt8 := dkwX3_removeListed_1 ++ dktX3_removeListed_2
def dkwX3_removeListed_0 : List UInt8 := [42, 180, 0, 9, 27, 184, 0, 150, 92, 46, 4, 100, 79, 28, 62, 29, 42, 27, 182, 0, 158, 162, 0, 31]
abbrev dktX3_removeListed_0 : List UInt8 := dkwX3_removeListed_0 ++ dktX3_removeListed_1
theorem dksX3_removeListed_0 : cX3_removeListed.data.toList.drop 0 = dktX3_removeListed_0 := by decide +kernel
theorem dksX3_removeListed_1 : cX3_removeListed.data.toList.drop 24 = dktX3_removeListed_1 := dk_seg dksX3_removeListed_0 24 rfl rfl
theorem dksX3_removeListed_2 : cX3_removeListed.data.toList.drop 46 = dktX3_removeListed_2 := dk_seg dksX3_removeListed_1 22 rfl rfl
theorem dX3_removeListed_0 : decode cX3_removeListed 0 = .ok (.aload_n 0, 1) := dk_42 (dk_at dksX3_removeListed_0 0 rfl rfl)
theorem dX3_removeListed_1 : decode cX3_removeListed 1 = .ok (.getfield 9, 3) := dk_180 0 9 (dk_at dksX3_removeListed_0 1 rfl rfl)
theorem dX3_removeListed_4 : decode cX3_removeListed 4 = .ok (.iload_n 1, 1) := dk_27 (dk_at dksX3_removeListed_0 4 rfl rfl)
theorem dX3_removeListed_5 : decode cX3_removeListed 5 = .ok (.invokestatic 150, 3) := dk_184 0 150 (dk_at dksX3_removeListed_0 5 rfl rfl)
theorem dX3_removeListed_8 : decode cX3_removeListed 8 = .ok (.dup2, 1) := dk_92 (dk_at dksX3_removeListed_0 8 rfl rfl)
theorem dX3_removeListed_9 : decode cX3_removeListed 9 = .ok (.iaload, 1) := dk_46 (dk_at dksX3_removeListed_0 9 rfl rfl)
theorem dX3_removeListed_10 : decode cX3_removeListed 10 = .ok (.iconst 1, 1) := dk_4 (dk_at dksX3_removeListed_0 10 rfl rfl)
theorem dX3_removeListed_11 : decode cX3_removeListed 11 = .ok (.isub, 1) := dk_100 (dk_at dksX3_removeListed_0 11 rfl rfl)
theorem dX3_removeListed_12 : decode cX3_removeListed 12 = .ok (.iastore, 1) := dk_79 (dk_at dksX3_removeListed_0 12 rfl rfl)
theorem dX3_removeListed_13 : decode cX3_removeListed 13 = .ok (.iload_n 2, 1) := dk_28 (dk_at dksX3_removeListed_0 13 rfl rfl)
theorem dX3_removeListed_14 : decode cX3_removeListed 14 = .ok (.istore_n 3, 1) := dk_62 (dk_at dksX3_removeListed_0 14 rfl rfl)
theorem dX3_removeListed_15 : decode cX3_removeListed 15 = .ok (.iload_n 3, 1) := dk_29 (dk_at dksX3_removeListed_0 15 rfl rfl)
theorem dX3_removeListed_16 : decode cX3_removeListed 16 = .ok (.aload_n 0, 1) := dk_42 (dk_at dksX3_removeListed_0 16 rfl rfl)
theorem dX3_removeListed_17 : decode cX3_removeListed 17 = .ok (.iload_n 1, 1) := dk_27 (dk_at dksX3_removeListed_0 17 rfl rfl)
theorem dX3_removeListed_18 : decode cX3_removeListed 18 = .ok (.invokevirtual 158, 3) := dk_182 0 158 (dk_at dksX3_removeListed_0 18 rfl rfl)
theorem dX3_removeListed_21 : decode cX3_removeListed 21 = .ok (.if_icmp .ge 31, 3) := dk_162 0 31 (dk_at dksX3_removeListed_0 21 rfl rfl)
theorem dX3_removeListed_24 : decode cX3_removeListed 24 = .ok (.aload_n 0, 1) := dk_42 (dk_at dksX3_removeListed_1 0 rfl rfl)
theorem dX3_removeListed_25 : decode cX3_removeListed 25 = .ok (.getfield 9, 3) := dk_180 0 9 (dk_at dksX3_removeListed_1 1 rfl rfl)
theorem dX3_removeListed_28 : decode cX3_removeListed 28 = .ok (.iload_n 1, 1) := dk_27 (dk_at dksX3_removeListed_1 4 rfl rfl)
theorem dX3_removeListed_29 : decode cX3_removeListed 29 = .ok (.iload_n 3, 1) := dk_29 (dk_at dksX3_removeListed_1 5 rfl rfl)
theorem dX3_removeListed_30 : decode cX3_removeListed 30 = .ok (.invokestatic 154, 3) := dk_184 0 154 (dk_at dksX3_removeListed_1 6 rfl rfl)
theorem dX3_removeListed_33 : decode cX3_removeListed 33 = .ok (.aload_n 0, 1) := dk_42 (dk_at dksX3_removeListed_1 9 rfl rfl)
theorem dX3_removeListed_34 : decode cX3_removeListed 34 = .ok (.getfield 9, 3) := dk_180 0 9 (dk_at dksX3_removeListed_1 10 rfl rfl)
theorem dX3_removeListed_37 : decode cX3_removeListed 37 = .ok (.iload_n 1, 1) := dk_27 (dk_at dksX3_removeListed_1 13 rfl rfl)
theorem dX3_removeListed_38 : decode cX3_removeListed 38 = .ok (.iload_n 3, 1) := dk_29 (dk_at dksX3_removeListed_1 14 rfl rfl)
theorem dX3_removeListed_39 : decode cX3_removeListed 39 = .ok (.iconst 1, 1) := dk_4 (dk_at dksX3_removeListed_1 15 rfl rfl)
theorem dX3_removeListed_40 : decode cX3_removeListed 40 = .ok (.iadd, 1) := dk_96 (dk_at dksX3_removeListed_1 16 rfl rfl)
theorem dX3_removeListed_41 : decode cX3_removeListed 41 = .ok (.invokestatic 154, 3) := dk_184 0 154 (dk_at dksX3_removeListed_1 17 rfl rfl)
theorem dX3_removeListed_44 : decode cX3_removeListed 44 = .ok (.iaload, 1) := dk_46 (dk_at dksX3_removeListed_1 20 rfl rfl)
theorem dX3_removeListed_45 : decode cX3_removeListed 45 = .ok (.iastore, 1) := dk_79 (dk_at dksX3_removeListed_1 21 rfl rfl)
theorem dX3_removeListed_46 : decode cX3_removeListed 46 = .ok (.iinc 3 1, 3) := dk_132 3 1 (dk_at dksX3_removeListed_2 0 rfl rfl)
theorem dX3_removeListed_49 : decode cX3_removeListed 49 = .ok (.goto (-34), 3) := dk_167 255 222 (dk_at dksX3_removeListed_2 3 rfl rfl)
theorem dX3_removeListed_52 : decode cX3_removeListed 52 = .ok (.aload_n 0, 1) := dk_42 (dk_at dksX3_removeListed_2 6 rfl rfl)
theorem dX3_removeListed_53 : decode cX3_removeListed 53 = .ok (.getfield 9, 3) := dk_180 0 9 (dk_at dksX3_removeListed_2 7 rfl rfl)
theorem dX3_removeListed_56 : decode cX3_removeListed 56 = .ok (.iload_n 1, 1) := dk_27 (dk_at dksX3_removeListed_2 10 rfl rfl)
theorem dX3_removeListed_57 : decode cX3_removeListed 57 = .ok (.aload_n 0, 1) := dk_42 (dk_at dksX3_removeListed_2 11 rfl rfl)
theorem dX3_removeListed_58 : decode cX3_removeListed 58 = .ok (.iload_n 1, 1) := dk_27 (dk_at dksX3_removeListed_2 12 rfl rfl)
theorem dX3_removeListed_59 : decode cX3_removeListed 59 = .ok (.invokevirtual 158, 3) := dk_182 0 158 (dk_at dksX3_removeListed_2 13 rfl rfl)
theorem dX3_removeListed_62 : decode cX3_removeListed 62 = .ok (.invokestatic 154, 3) := dk_184 0 154 (dk_at dksX3_removeListed_2 16 rfl rfl)
theorem dX3_removeListed_65 : decode cX3_removeListed 65 = .ok (.iconst 0, 1) := dk_3 (dk_at dksX3_removeListed_2 19 rfl rfl)
theorem dX3_removeListed_66 : decode cX3_removeListed 66 = .ok (.iastore, 1) := dk_79 (dk_at dksX3_removeListed_2 20 rfl rfl)
theorem dX3_removeListed_67 : decode cX3_removeListed 67 = .ok (.return_, 1) := dk_177 (dk_at dksX3_removeListed_2 21 rfl rfl)
/-- PackingDuelModel.removeListed(ZI)V -/
def zb241 (G : zPg) (C : zO) (args : List Value) (Q : zQ) (Y : zY) (σ : zS) : Prop := ∃ (a0 : Nat) (x1 : Int32) (x2 : Int32), args = [.ref a0, .int x1, .int x2] ∧ (zgR σ (some a0) 4 0 (fun v1 => zcl C 190 [.int x1] Y σ (zqI (fun v7 s8 => zaI s8 0 v1 v7 (fun v16 => zsI s8 G.1 0 v1 v7 (v16 - (1 : Int32)) (fun s25 => ∃ n, zIt (fun _ _ => False) (fun rec29 (p27 : Int32) (s28 : zS) => zrc s28 (some a0) 4 (fun a33 => zcl C 189 [.ref a33, .int x1] Y s28 (zqI (fun v30 s31 => ((v30 ≤ p27) → zgR s31 (some a0) 4 0 (fun v38 => zrc s31 (some a0) 4 (fun a47 => zcl C 189 [.ref a47, .int x1] Y s31 (zqI (fun v44 s45 => zcl C 192 [.int x1, .int v44] Y s45 (zqI (fun v51 s52 => zsI s52 G.1 0 v38 v51 (0 : Int32) (fun s61 => Q none s61)))))))) ∧ ((¬ v30 ≤ p27) → zgR s31 (some a0) 4 0 (fun v63 => zcl C 192 [.int x1, .int p27] Y s31 (zqI (fun v69 s70 => zgR s70 (some a0) 4 0 (fun v72 => zcl C 192 [.int x1, .int (p27 + (1 : Int32))] Y s70 (zqI (fun v78 s79 => zaI s79 0 v72 v78 (fun v87 => zsI s79 G.1 0 v63 v69 v87 (fun s96 => (∀ v98 : Int32, v98 = p27 + (1 : Int32) → rec29 v98 s96)))))))))))))) n x2 s25))))))
set_option maxHeartbeats 4000000 in
theorem wk241 {l : Launch} {g : zG} {d : Nat} {C : zO} (hG : zGk g) (hC : zSound l g d C) {args : List Value} {Q : zQ} {Y : zY} {σ : zS} (hw : zb241 (zpg g) C args Q Y σ) : zMet l g (d + 1) (⟨"PackingDuelModel", "removeListed", "(ZI)V"⟩, Cond.code ⟨"PackingDuelModel", "removeListed", "(ZI)V"⟩ prog_28_method_29_code 4 (Option.none : Option FieldType)) args σ Q Y := by
  obtain ⟨a0, x1, x2, rfl, hw⟩ := hw
  refine zof hG (by decide +kernel) [false, false, false] ⟨rfl, rfl, rfl, trivial⟩ (Nat.le_of_ble_eq_true rfl) (ls := [some (va_rf (some a0)), some (.int x1), some (.int x2), none]) rfl ?_
  intro X hX hR hTb hd1 hd2 hl hg hnm
  subst hl
  subst hg
  have hd : zDep X d := ⟨hd1, hd2⟩
  refine z_aload_n hX dX3_removeListed_0 rfl (i := 0) rfl ?_
  obtain ⟨a2, f3, v1, r4, m5, e6, hw⟩ := hw
  refine z_get hX zc4 (k := 0) dX3_removeListed_1 (Nat.le_of_ble_eq_true rfl) (zlk hX q2469) r4 m5 e6 ?_
  refine z_iload_n hX dX3_removeListed_4 rfl (i := 1) rfl ?_
  refine z_invS hX hd dX3_removeListed_5 (hC 190 _ zm190 _ _ _ _ hw) q2727 q2728 zh7 q2729 q136 zn190 rfl (Nat.le_of_ble_eq_true rfl) (st := [va_rf v1]) rfl (zcs8 (Nat.le_of_ble_eq_true rfl)) rfl (zkI (fun v7 s8 hw => ?_)) (zout hX hR hTb)
  refine z_dup2 hX dX3_removeListed_8 rfl (zc_rf _) ?_
  obtain ⟨a10, n11, f12, r13, m14, i15, hw⟩ := hw
  refine z_iald hX dX3_removeListed_9 r13 m14 i15 ?_
  revert hw
  generalize f12 (Int32.toNatClampNeg v7) = v16
  intro hw
  refine z_iconst hX (v := (1 : Int32)) dX3_removeListed_10 (by decide) ?_
  refine z_isub hX dX3_removeListed_11 ?_
  obtain ⟨a18, n19, f20, r21, g22, m23, i24, hw⟩ := hw
  refine z_iast hX dX3_removeListed_12 r21 g22 m23 i24 (z_nm (fun s25 e26 => ?_))
  have hw := hw s25 e26
  refine z_iload_n hX dX3_removeListed_13 rfl (i := 2) rfl ?_
  refine z_istore_n hX dX3_removeListed_14 rfl (i := 3) (Nat.le_of_ble_eq_true rfl) rfl (ls2 := [some (va_rf (some a0)), some (.int x1), some (.int x2), some (.int x2)]) rfl ?_
  obtain ⟨n100, hw⟩ := hw
  refine z_sub (ls' := [some (va_rf (some a0)), some (.int x1), none, some (.int x2)]) (zsS (zsS (zsN (zsS (zs0))))) ?_
  refine zIt_w (P := fun (j : Int32 → zS → Prop) => ∀ (p27 : Int32) (s28 : zS), j p27 s28 → zW X s28 15 [some (va_rf (some a0)), some (.int x1), none, some (.int p27)] []) (fun _ _ h => h.elim) (fun rec29 hrec29 p27 s28 hw => ?_) n100 _ _ hw
  refine z_iload_n hX dX3_removeListed_15 rfl (i := 3) rfl ?_
  refine z_aload_n hX dX3_removeListed_16 rfl (i := 0) rfl ?_
  refine z_iload_n hX dX3_removeListed_17 rfl (i := 1) rfl ?_
  obtain ⟨a33, f34, r35, m36, hw⟩ := hw
  refine z_invV hX hd r35 (ci := 4) rfl rfl m36 dX3_removeListed_18 (hC 189 _ zm189 _ _ _ _ hw) q2723 q2725 qs65 zh7 q2726 q136 zn189 rfl (Nat.le_of_ble_eq_true rfl) (st := [.int p27]) rfl (zcs8 (Nat.le_of_ble_eq_true rfl)) rfl (zkI (fun v30 s31 hw => ?_)) (zout hX hR hTb)
  refine z_icmp_ge hX dX3_removeListed_21 (tgt := 52) rfl (fun c37 => ?_) (fun c37 => ?_)
  · have hw := hw.1 c37
    refine z_aload_n hX dX3_removeListed_52 rfl (i := 0) rfl ?_
    obtain ⟨a39, f40, v38, r41, m42, e43, hw⟩ := hw
    refine z_get hX zc4 (k := 0) dX3_removeListed_53 (Nat.le_of_ble_eq_true rfl) (zlk hX q2469) r41 m42 e43 ?_
    refine z_iload_n hX dX3_removeListed_56 rfl (i := 1) rfl ?_
    refine z_aload_n hX dX3_removeListed_57 rfl (i := 0) rfl ?_
    refine z_iload_n hX dX3_removeListed_58 rfl (i := 1) rfl ?_
    obtain ⟨a47, f48, r49, m50, hw⟩ := hw
    refine z_invV hX hd r49 (ci := 4) rfl rfl m50 dX3_removeListed_59 (hC 189 _ zm189 _ _ _ _ hw) q2723 q2725 qs65 zh7 q2726 q136 zn189 rfl (Nat.le_of_ble_eq_true rfl) (st := [.int x1, va_rf v38]) rfl (zcs8 (Nat.le_of_ble_eq_true rfl)) rfl (zkI (fun v44 s45 hw => ?_)) (zout hX hR hTb)
    refine z_invS hX hd dX3_removeListed_62 (hC 192 _ zm192 _ _ _ _ hw) q2734 q2735 zh7 q2736 q136 zn192 rfl (Nat.le_of_ble_eq_true rfl) (st := [va_rf v38]) rfl (zcs8 (Nat.le_of_ble_eq_true rfl)) rfl (zkI (fun v51 s52 hw => ?_)) (zout hX hR hTb)
    refine z_iconst hX (v := (0 : Int32)) dX3_removeListed_65 (by decide) ?_
    obtain ⟨a54, n55, f56, r57, g58, m59, i60, hw⟩ := hw
    refine z_iast hX dX3_removeListed_66 r57 g58 m59 i60 (z_nm (fun s61 e62 => ?_))
    have hw := hw s61 e62
    exact z_return hX hR dX3_removeListed_67 hw
  · have hw := hw.2 c37
    refine z_aload_n hX dX3_removeListed_24 rfl (i := 0) rfl ?_
    obtain ⟨a64, f65, v63, r66, m67, e68, hw⟩ := hw
    refine z_get hX zc4 (k := 0) dX3_removeListed_25 (Nat.le_of_ble_eq_true rfl) (zlk hX q2469) r66 m67 e68 ?_
    refine z_iload_n hX dX3_removeListed_28 rfl (i := 1) rfl ?_
    refine z_iload_n hX dX3_removeListed_29 rfl (i := 3) rfl ?_
    refine z_invS hX hd dX3_removeListed_30 (hC 192 _ zm192 _ _ _ _ hw) q2734 q2735 zh7 q2736 q136 zn192 rfl (Nat.le_of_ble_eq_true rfl) (st := [va_rf v63]) rfl (zcs8 (Nat.le_of_ble_eq_true rfl)) rfl (zkI (fun v69 s70 hw => ?_)) (zout hX hR hTb)
    refine z_aload_n hX dX3_removeListed_33 rfl (i := 0) rfl ?_
    obtain ⟨a73, f74, v72, r75, m76, e77, hw⟩ := hw
    refine z_get hX zc4 (k := 0) dX3_removeListed_34 (Nat.le_of_ble_eq_true rfl) (zlk hX q2469) r75 m76 e77 ?_
    refine z_iload_n hX dX3_removeListed_37 rfl (i := 1) rfl ?_
    refine z_iload_n hX dX3_removeListed_38 rfl (i := 3) rfl ?_
    refine z_iconst hX (v := (1 : Int32)) dX3_removeListed_39 (by decide) ?_
    refine z_iadd hX dX3_removeListed_40 ?_
    refine z_invS hX hd dX3_removeListed_41 (hC 192 _ zm192 _ _ _ _ hw) q2734 q2735 zh7 q2736 q136 zn192 rfl (Nat.le_of_ble_eq_true rfl) (st := [va_rf v72, .int v69, va_rf v63]) rfl (zcs8 (Nat.le_of_ble_eq_true rfl)) rfl (zkI (fun v78 s79 hw => ?_)) (zout hX hR hTb)
    obtain ⟨a81, n82, f83, r84, m85, i86, hw⟩ := hw
    refine z_iald hX dX3_removeListed_44 r84 m85 i86 ?_
    revert hw
    generalize f83 (Int32.toNatClampNeg v78) = v87
    intro hw
    obtain ⟨a89, n90, f91, r92, g93, m94, i95, hw⟩ := hw
    refine z_iast hX dX3_removeListed_45 r92 g93 m94 i95 (z_nm (fun s96 e97 => ?_))
    have hw := hw s96 e97
    obtain ⟨v98, e99⟩ : ∃ y : Int32, y = p27 + (1 : Int32) := ⟨_, rfl⟩
    refine z_iinc hX dX3_removeListed_46 (i := 3) (v := v98) rfl (by rw [e99]; rfl) (Nat.le_of_ble_eq_true rfl) trivial (ls2 := [some (va_rf (some a0)), some (.int x1), none, some (.int v98)]) rfl ?_
    have hw := hw v98 e99
    refine z_goto hX dX3_removeListed_49 (tgt := 15) rfl ?_
    exact hrec29 _ _ hw
abbrev cX3_setCapacity : ByteArray := prog_28_method_88_code
def yX3_setCapacity : MethodName := ⟨RX3, "setCapacity", "(I)I"⟩
def dkwX3_setCapacity_1 : List UInt8 := [167, 0, 8, 42, 4, 182, 1, 33, 172]
abbrev dktX3_setCapacity_1 : List UInt8 := dkwX3_setCapacity_1 ++ []
def dkwX3_setCapacity_0 : List UInt8 := [42, 3, 181, 0, 103, 27, 3, 17, 0, 200, 184, 0, 109, 153, 0, 12, 42, 4, 27, 182, 1, 95]
abbrev dktX3_setCapacity_0 : List UInt8 := dkwX3_setCapacity_0 ++ dktX3_setCapacity_1
theorem dksX3_setCapacity_0 : cX3_setCapacity.data.toList.drop 0 = dktX3_setCapacity_0 := by decide +kernel
theorem dksX3_setCapacity_1 : cX3_setCapacity.data.toList.drop 22 = dktX3_setCapacity_1 := dk_seg dksX3_setCapacity_0 22 rfl rfl
theorem dX3_setCapacity_0 : decode cX3_setCapacity 0 = .ok (.aload_n 0, 1) := dk_42 (dk_at dksX3_setCapacity_0 0 rfl rfl)
theorem dX3_setCapacity_1 : decode cX3_setCapacity 1 = .ok (.iconst 0, 1) := dk_3 (dk_at dksX3_setCapacity_0 1 rfl rfl)
theorem dX3_setCapacity_2 : decode cX3_setCapacity 2 = .ok (.putfield 103, 3) := dk_181 0 103 (dk_at dksX3_setCapacity_0 2 rfl rfl)
theorem dX3_setCapacity_5 : decode cX3_setCapacity 5 = .ok (.iload_n 1, 1) := dk_27 (dk_at dksX3_setCapacity_0 5 rfl rfl)
theorem dX3_setCapacity_6 : decode cX3_setCapacity 6 = .ok (.iconst 0, 1) := dk_3 (dk_at dksX3_setCapacity_0 6 rfl rfl)
theorem dX3_setCapacity_7 : decode cX3_setCapacity 7 = .ok (.sipush 200, 3) := dk_17 0 200 (dk_at dksX3_setCapacity_0 7 rfl rfl)
theorem dX3_setCapacity_10 : decode cX3_setCapacity 10 = .ok (.invokestatic 109, 3) := dk_184 0 109 (dk_at dksX3_setCapacity_0 10 rfl rfl)
theorem dX3_setCapacity_13 : decode cX3_setCapacity 13 = .ok (.ifCond .eq 12, 3) := dk_153 0 12 (dk_at dksX3_setCapacity_0 13 rfl rfl)
theorem dX3_setCapacity_16 : decode cX3_setCapacity 16 = .ok (.aload_n 0, 1) := dk_42 (dk_at dksX3_setCapacity_0 16 rfl rfl)
theorem dX3_setCapacity_17 : decode cX3_setCapacity 17 = .ok (.iconst 1, 1) := dk_4 (dk_at dksX3_setCapacity_0 17 rfl rfl)
theorem dX3_setCapacity_18 : decode cX3_setCapacity 18 = .ok (.iload_n 1, 1) := dk_27 (dk_at dksX3_setCapacity_0 18 rfl rfl)
theorem dX3_setCapacity_19 : decode cX3_setCapacity 19 = .ok (.invokevirtual 351, 3) := dk_182 1 95 (dk_at dksX3_setCapacity_0 19 rfl rfl)
theorem dX3_setCapacity_22 : decode cX3_setCapacity 22 = .ok (.goto 8, 3) := dk_167 0 8 (dk_at dksX3_setCapacity_1 0 rfl rfl)
theorem dX3_setCapacity_25 : decode cX3_setCapacity 25 = .ok (.aload_n 0, 1) := dk_42 (dk_at dksX3_setCapacity_1 3 rfl rfl)
theorem dX3_setCapacity_26 : decode cX3_setCapacity 26 = .ok (.iconst 1, 1) := dk_4 (dk_at dksX3_setCapacity_1 4 rfl rfl)
theorem dX3_setCapacity_27 : decode cX3_setCapacity 27 = .ok (.invokevirtual 289, 3) := dk_182 1 33 (dk_at dksX3_setCapacity_1 5 rfl rfl)
theorem dX3_setCapacity_30 : decode cX3_setCapacity 30 = .ok (.ireturn, 1) := dk_172 (dk_at dksX3_setCapacity_1 8 rfl rfl)
/-- PackingDuelModel.setCapacity(I)I -/
def zb242 (G : zPg) (C : zO) (args : List Value) (Q : zQ) (Y : zY) (σ : zS) : Prop := ∃ (a0 : Nat) (x1 : Int32), args = [.ref a0, .int x1] ∧ (zput σ G.1 (some a0) 4 5 (.int (0 : Int32)) (fun s1 => zcl C 166 [.int x1, .int (0 : Int32), .int (200 : Int32)] Y s1 (zqI (fun v9 s10 => zJ (fun (p12 : Int32) (s13 : zS) => Q (some (.int p12)) s13) (fun (j14 : Int32 → zS → Prop) => ((v9 = 0) → zrc s10 (some a0) 4 (fun a19 => zcl C 163 [.ref a19, .int (1 : Int32)] Y s10 (zqI (fun v16 s17 => j14 v16 s17)))) ∧ ((¬ v9 = 0) → zrc s10 (some a0) 4 (fun a26 => zcl C 236 [.ref a26, .int (1 : Int32), .int x1] Y s10 (zqI (fun v23 s24 => j14 v23 s24)))))))))
set_option maxHeartbeats 4000000 in
theorem wk242 {l : Launch} {g : zG} {d : Nat} {C : zO} (hG : zGk g) (hC : zSound l g d C) {args : List Value} {Q : zQ} {Y : zY} {σ : zS} (hw : zb242 (zpg g) C args Q Y σ) : zMet l g (d + 1) (⟨"PackingDuelModel", "setCapacity", "(I)I"⟩, Cond.code ⟨"PackingDuelModel", "setCapacity", "(I)I"⟩ prog_28_method_88_code 2 (Option.some FieldType.int)) args σ Q Y := by
  obtain ⟨a0, x1, rfl, hw⟩ := hw
  refine zof hG (by decide +kernel) [false, false] ⟨rfl, rfl, trivial⟩ (Nat.le_of_ble_eq_true rfl) (ls := [some (va_rf (some a0)), some (.int x1)]) rfl ?_
  intro X hX hR hTb hd1 hd2 hl hg hnm
  subst hl
  subst hg
  have hd : zDep X d := ⟨hd1, hd2⟩
  refine z_aload_n hX dX3_setCapacity_0 rfl (i := 0) rfl ?_
  refine z_iconst hX (v := (0 : Int32)) dX3_setCapacity_1 (by decide) ?_
  obtain ⟨a3, f4, r5, g6, m7, l8, hw⟩ := hw
  refine z_put hX zc4 (k := 5) dX3_setCapacity_2 (Nat.le_of_ble_eq_true rfl) (zlk hX q2474) rfl rfl rfl r5 g6 m7 l8 (z_nm (fun s1 e2 => ?_))
  have hw := hw s1 e2
  refine z_iload_n hX dX3_setCapacity_5 rfl (i := 1) rfl ?_
  refine z_iconst hX (v := (0 : Int32)) dX3_setCapacity_6 (by decide) ?_
  refine z_sipush hX (v := (200 : Int32)) dX3_setCapacity_7 (by decide) ?_
  refine z_invS hX hd dX3_setCapacity_10 (hC 166 _ zm166 _ _ _ _ hw) q2632 q2633 zh7 q2634 q136 zn166 rfl (Nat.le_of_ble_eq_true rfl) (st := []) rfl (zcs8 (Nat.le_of_ble_eq_true rfl)) rfl (zkI (fun v9 s10 hw => ?_)) (zout hX hR hTb)
  refine zJ_w (P := fun (j : Int32 → zS → Prop) => ∀ (p12 : Int32) (s13 : zS), j p12 s13 → zW X s13 30 [none, none] [.int p12]) hw (fun p12 s13 hw => ?_) (fun j14 hj14 hw => ?_)
  · exact z_ireturn hX hR dX3_setCapacity_30 rfl hw
  · refine z_if_eq hX dX3_setCapacity_13 (tgt := 25) rfl (fun c15 => ?_) (fun c15 => ?_)
    · have hw := hw.1 c15
      refine z_aload_n hX dX3_setCapacity_25 rfl (i := 0) rfl ?_
      refine z_iconst hX (v := (1 : Int32)) dX3_setCapacity_26 (by decide) ?_
      obtain ⟨a19, f20, r21, m22, hw⟩ := hw
      refine z_invV hX hd r21 (ci := 4) rfl rfl m22 dX3_setCapacity_27 (hC 163 _ zm163 _ _ _ _ hw) q2620 q2622 qs49 zh7 q2623 q136 zn163 rfl (Nat.le_of_ble_eq_true rfl) (st := []) rfl (zcs8 (Nat.le_of_ble_eq_true rfl)) rfl (zkI (fun v16 s17 hw => ?_)) (zout hX hR hTb)
      refine z_sub (ls' := [none, none]) (zsN (zsN (zs0))) ?_
      exact hj14 _ _ hw
    · have hw := hw.2 c15
      refine z_aload_n hX dX3_setCapacity_16 rfl (i := 0) rfl ?_
      refine z_iconst hX (v := (1 : Int32)) dX3_setCapacity_17 (by decide) ?_
      refine z_iload_n hX dX3_setCapacity_18 rfl (i := 1) rfl ?_
      obtain ⟨a26, f27, r28, m29, hw⟩ := hw
      refine z_invV hX hd r28 (ci := 4) rfl rfl m29 dX3_setCapacity_19 (hC 236 _ zm236 _ _ _ _ hw) q2907 q2909 qs92 zh7 q2910 q136 zn236 rfl (Nat.le_of_ble_eq_true rfl) (st := []) rfl (zcs8 (Nat.le_of_ble_eq_true rfl)) rfl (zkI (fun v23 s24 hw => ?_)) (zout hX hR hTb)
      refine z_goto hX dX3_setCapacity_22 (tgt := 30) rfl ?_
      refine z_sub (ls' := [none, none]) (zsN (zsN (zs0))) ?_
      exact hj14 _ _ hw
abbrev cX3_setThreshold : ByteArray := prog_28_method_89_code
def yX3_setThreshold : MethodName := ⟨RX3, "setThreshold", "(I)I"⟩
def dkwX3_setThreshold_1 : List UInt8 := [167, 0, 8, 42, 4, 182, 1, 33, 172]
abbrev dktX3_setThreshold_1 : List UInt8 := dkwX3_setThreshold_1 ++ []
def dkwX3_setThreshold_0 : List UInt8 := [42, 3, 181, 0, 103, 27, 3, 17, 0, 200, 184, 0, 109, 153, 0, 12, 42, 5, 27, 182, 1, 95]
abbrev dktX3_setThreshold_0 : List UInt8 := dkwX3_setThreshold_0 ++ dktX3_setThreshold_1
theorem dksX3_setThreshold_0 : cX3_setThreshold.data.toList.drop 0 = dktX3_setThreshold_0 := by decide +kernel
theorem dksX3_setThreshold_1 : cX3_setThreshold.data.toList.drop 22 = dktX3_setThreshold_1 := dk_seg dksX3_setThreshold_0 22 rfl rfl
theorem dX3_setThreshold_0 : decode cX3_setThreshold 0 = .ok (.aload_n 0, 1) := dk_42 (dk_at dksX3_setThreshold_0 0 rfl rfl)
theorem dX3_setThreshold_1 : decode cX3_setThreshold 1 = .ok (.iconst 0, 1) := dk_3 (dk_at dksX3_setThreshold_0 1 rfl rfl)
theorem dX3_setThreshold_2 : decode cX3_setThreshold 2 = .ok (.putfield 103, 3) := dk_181 0 103 (dk_at dksX3_setThreshold_0 2 rfl rfl)
theorem dX3_setThreshold_5 : decode cX3_setThreshold 5 = .ok (.iload_n 1, 1) := dk_27 (dk_at dksX3_setThreshold_0 5 rfl rfl)
theorem dX3_setThreshold_6 : decode cX3_setThreshold 6 = .ok (.iconst 0, 1) := dk_3 (dk_at dksX3_setThreshold_0 6 rfl rfl)
theorem dX3_setThreshold_7 : decode cX3_setThreshold 7 = .ok (.sipush 200, 3) := dk_17 0 200 (dk_at dksX3_setThreshold_0 7 rfl rfl)
theorem dX3_setThreshold_10 : decode cX3_setThreshold 10 = .ok (.invokestatic 109, 3) := dk_184 0 109 (dk_at dksX3_setThreshold_0 10 rfl rfl)
theorem dX3_setThreshold_13 : decode cX3_setThreshold 13 = .ok (.ifCond .eq 12, 3) := dk_153 0 12 (dk_at dksX3_setThreshold_0 13 rfl rfl)
theorem dX3_setThreshold_16 : decode cX3_setThreshold 16 = .ok (.aload_n 0, 1) := dk_42 (dk_at dksX3_setThreshold_0 16 rfl rfl)
theorem dX3_setThreshold_17 : decode cX3_setThreshold 17 = .ok (.iconst 2, 1) := dk_5 (dk_at dksX3_setThreshold_0 17 rfl rfl)
theorem dX3_setThreshold_18 : decode cX3_setThreshold 18 = .ok (.iload_n 1, 1) := dk_27 (dk_at dksX3_setThreshold_0 18 rfl rfl)
theorem dX3_setThreshold_19 : decode cX3_setThreshold 19 = .ok (.invokevirtual 351, 3) := dk_182 1 95 (dk_at dksX3_setThreshold_0 19 rfl rfl)
theorem dX3_setThreshold_22 : decode cX3_setThreshold 22 = .ok (.goto 8, 3) := dk_167 0 8 (dk_at dksX3_setThreshold_1 0 rfl rfl)
theorem dX3_setThreshold_25 : decode cX3_setThreshold 25 = .ok (.aload_n 0, 1) := dk_42 (dk_at dksX3_setThreshold_1 3 rfl rfl)
theorem dX3_setThreshold_26 : decode cX3_setThreshold 26 = .ok (.iconst 1, 1) := dk_4 (dk_at dksX3_setThreshold_1 4 rfl rfl)
theorem dX3_setThreshold_27 : decode cX3_setThreshold 27 = .ok (.invokevirtual 289, 3) := dk_182 1 33 (dk_at dksX3_setThreshold_1 5 rfl rfl)
theorem dX3_setThreshold_30 : decode cX3_setThreshold 30 = .ok (.ireturn, 1) := dk_172 (dk_at dksX3_setThreshold_1 8 rfl rfl)
/-- PackingDuelModel.setThreshold(I)I -/
def zb243 (G : zPg) (C : zO) (args : List Value) (Q : zQ) (Y : zY) (σ : zS) : Prop := ∃ (a0 : Nat) (x1 : Int32), args = [.ref a0, .int x1] ∧ (zput σ G.1 (some a0) 4 5 (.int (0 : Int32)) (fun s1 => zcl C 166 [.int x1, .int (0 : Int32), .int (200 : Int32)] Y s1 (zqI (fun v9 s10 => zJ (fun (p12 : Int32) (s13 : zS) => Q (some (.int p12)) s13) (fun (j14 : Int32 → zS → Prop) => ((v9 = 0) → zrc s10 (some a0) 4 (fun a19 => zcl C 163 [.ref a19, .int (1 : Int32)] Y s10 (zqI (fun v16 s17 => j14 v16 s17)))) ∧ ((¬ v9 = 0) → zrc s10 (some a0) 4 (fun a26 => zcl C 236 [.ref a26, .int (2 : Int32), .int x1] Y s10 (zqI (fun v23 s24 => j14 v23 s24)))))))))
set_option maxHeartbeats 4000000 in
theorem wk243 {l : Launch} {g : zG} {d : Nat} {C : zO} (hG : zGk g) (hC : zSound l g d C) {args : List Value} {Q : zQ} {Y : zY} {σ : zS} (hw : zb243 (zpg g) C args Q Y σ) : zMet l g (d + 1) (⟨"PackingDuelModel", "setThreshold", "(I)I"⟩, Cond.code ⟨"PackingDuelModel", "setThreshold", "(I)I"⟩ prog_28_method_89_code 2 (Option.some FieldType.int)) args σ Q Y := by
  obtain ⟨a0, x1, rfl, hw⟩ := hw
  refine zof hG (by decide +kernel) [false, false] ⟨rfl, rfl, trivial⟩ (Nat.le_of_ble_eq_true rfl) (ls := [some (va_rf (some a0)), some (.int x1)]) rfl ?_
  intro X hX hR hTb hd1 hd2 hl hg hnm
  subst hl
  subst hg
  have hd : zDep X d := ⟨hd1, hd2⟩
  refine z_aload_n hX dX3_setThreshold_0 rfl (i := 0) rfl ?_
  refine z_iconst hX (v := (0 : Int32)) dX3_setThreshold_1 (by decide) ?_
  obtain ⟨a3, f4, r5, g6, m7, l8, hw⟩ := hw
  refine z_put hX zc4 (k := 5) dX3_setThreshold_2 (Nat.le_of_ble_eq_true rfl) (zlk hX q2474) rfl rfl rfl r5 g6 m7 l8 (z_nm (fun s1 e2 => ?_))
  have hw := hw s1 e2
  refine z_iload_n hX dX3_setThreshold_5 rfl (i := 1) rfl ?_
  refine z_iconst hX (v := (0 : Int32)) dX3_setThreshold_6 (by decide) ?_
  refine z_sipush hX (v := (200 : Int32)) dX3_setThreshold_7 (by decide) ?_
  refine z_invS hX hd dX3_setThreshold_10 (hC 166 _ zm166 _ _ _ _ hw) q2632 q2633 zh7 q2634 q136 zn166 rfl (Nat.le_of_ble_eq_true rfl) (st := []) rfl (zcs8 (Nat.le_of_ble_eq_true rfl)) rfl (zkI (fun v9 s10 hw => ?_)) (zout hX hR hTb)
  refine zJ_w (P := fun (j : Int32 → zS → Prop) => ∀ (p12 : Int32) (s13 : zS), j p12 s13 → zW X s13 30 [none, none] [.int p12]) hw (fun p12 s13 hw => ?_) (fun j14 hj14 hw => ?_)
  · exact z_ireturn hX hR dX3_setThreshold_30 rfl hw
  · refine z_if_eq hX dX3_setThreshold_13 (tgt := 25) rfl (fun c15 => ?_) (fun c15 => ?_)
    · have hw := hw.1 c15
      refine z_aload_n hX dX3_setThreshold_25 rfl (i := 0) rfl ?_
      refine z_iconst hX (v := (1 : Int32)) dX3_setThreshold_26 (by decide) ?_
      obtain ⟨a19, f20, r21, m22, hw⟩ := hw
      refine z_invV hX hd r21 (ci := 4) rfl rfl m22 dX3_setThreshold_27 (hC 163 _ zm163 _ _ _ _ hw) q2620 q2622 qs49 zh7 q2623 q136 zn163 rfl (Nat.le_of_ble_eq_true rfl) (st := []) rfl (zcs8 (Nat.le_of_ble_eq_true rfl)) rfl (zkI (fun v16 s17 hw => ?_)) (zout hX hR hTb)
      refine z_sub (ls' := [none, none]) (zsN (zsN (zs0))) ?_
      exact hj14 _ _ hw
    · have hw := hw.2 c15
      refine z_aload_n hX dX3_setThreshold_16 rfl (i := 0) rfl ?_
      refine z_iconst hX (v := (2 : Int32)) dX3_setThreshold_17 (by decide) ?_
      refine z_iload_n hX dX3_setThreshold_18 rfl (i := 1) rfl ?_
      obtain ⟨a26, f27, r28, m29, hw⟩ := hw
      refine z_invV hX hd r28 (ci := 4) rfl rfl m29 dX3_setThreshold_19 (hC 236 _ zm236 _ _ _ _ hw) q2907 q2909 qs92 zh7 q2910 q136 zn236 rfl (Nat.le_of_ble_eq_true rfl) (st := []) rfl (zcs8 (Nat.le_of_ble_eq_true rfl)) rfl (zkI (fun v23 s24 hw => ?_)) (zout hX hR hTb)
      refine z_goto hX dX3_setThreshold_22 (tgt := 30) rfl ?_
      refine z_sub (ls' := [none, none]) (zsN (zsN (zs0))) ?_
      exact hj14 _ _ hw
abbrev cX3_setFriendly : ByteArray := prog_28_method_90_code
def yX3_setFriendly : MethodName := ⟨RX3, "setFriendly", "(Z)Z"⟩
def dkwX3_setFriendly_1 : List UInt8 := [61, 42, 180, 0, 9, 6, 27, 153, 0, 7, 4, 167, 0, 4, 3, 79, 28, 172]
abbrev dktX3_setFriendly_1 : List UInt8 := dkwX3_setFriendly_1 ++ []
def dkwX3_setFriendly_0 : List UInt8 := [42, 3, 181, 0, 103, 42, 182, 1, 82, 42, 180, 0, 9, 6, 46, 4, 160, 0, 7, 4, 167, 0, 4, 3]
abbrev dktX3_setFriendly_0 : List UInt8 := dkwX3_setFriendly_0 ++ dktX3_setFriendly_1
theorem dksX3_setFriendly_0 : cX3_setFriendly.data.toList.drop 0 = dktX3_setFriendly_0 := by decide +kernel
theorem dksX3_setFriendly_1 : cX3_setFriendly.data.toList.drop 24 = dktX3_setFriendly_1 := dk_seg dksX3_setFriendly_0 24 rfl rfl
theorem dX3_setFriendly_0 : decode cX3_setFriendly 0 = .ok (.aload_n 0, 1) := dk_42 (dk_at dksX3_setFriendly_0 0 rfl rfl)
theorem dX3_setFriendly_1 : decode cX3_setFriendly 1 = .ok (.iconst 0, 1) := dk_3 (dk_at dksX3_setFriendly_0 1 rfl rfl)
theorem dX3_setFriendly_2 : decode cX3_setFriendly 2 = .ok (.putfield 103, 3) := dk_181 0 103 (dk_at dksX3_setFriendly_0 2 rfl rfl)
theorem dX3_setFriendly_5 : decode cX3_setFriendly 5 = .ok (.aload_n 0, 1) := dk_42 (dk_at dksX3_setFriendly_0 5 rfl rfl)
theorem dX3_setFriendly_6 : decode cX3_setFriendly 6 = .ok (.invokevirtual 338, 3) := dk_182 1 82 (dk_at dksX3_setFriendly_0 6 rfl rfl)
theorem dX3_setFriendly_9 : decode cX3_setFriendly 9 = .ok (.aload_n 0, 1) := dk_42 (dk_at dksX3_setFriendly_0 9 rfl rfl)
theorem dX3_setFriendly_10 : decode cX3_setFriendly 10 = .ok (.getfield 9, 3) := dk_180 0 9 (dk_at dksX3_setFriendly_0 10 rfl rfl)
theorem dX3_setFriendly_13 : decode cX3_setFriendly 13 = .ok (.iconst 3, 1) := dk_6 (dk_at dksX3_setFriendly_0 13 rfl rfl)
theorem dX3_setFriendly_14 : decode cX3_setFriendly 14 = .ok (.iaload, 1) := dk_46 (dk_at dksX3_setFriendly_0 14 rfl rfl)
theorem dX3_setFriendly_15 : decode cX3_setFriendly 15 = .ok (.iconst 1, 1) := dk_4 (dk_at dksX3_setFriendly_0 15 rfl rfl)
theorem dX3_setFriendly_16 : decode cX3_setFriendly 16 = .ok (.if_icmp .ne 7, 3) := dk_160 0 7 (dk_at dksX3_setFriendly_0 16 rfl rfl)
theorem dX3_setFriendly_19 : decode cX3_setFriendly 19 = .ok (.iconst 1, 1) := dk_4 (dk_at dksX3_setFriendly_0 19 rfl rfl)
theorem dX3_setFriendly_20 : decode cX3_setFriendly 20 = .ok (.goto 4, 3) := dk_167 0 4 (dk_at dksX3_setFriendly_0 20 rfl rfl)
theorem dX3_setFriendly_23 : decode cX3_setFriendly 23 = .ok (.iconst 0, 1) := dk_3 (dk_at dksX3_setFriendly_0 23 rfl rfl)
theorem dX3_setFriendly_24 : decode cX3_setFriendly 24 = .ok (.istore_n 2, 1) := dk_61 (dk_at dksX3_setFriendly_1 0 rfl rfl)
theorem dX3_setFriendly_25 : decode cX3_setFriendly 25 = .ok (.aload_n 0, 1) := dk_42 (dk_at dksX3_setFriendly_1 1 rfl rfl)
theorem dX3_setFriendly_26 : decode cX3_setFriendly 26 = .ok (.getfield 9, 3) := dk_180 0 9 (dk_at dksX3_setFriendly_1 2 rfl rfl)
theorem dX3_setFriendly_29 : decode cX3_setFriendly 29 = .ok (.iconst 3, 1) := dk_6 (dk_at dksX3_setFriendly_1 5 rfl rfl)
theorem dX3_setFriendly_30 : decode cX3_setFriendly 30 = .ok (.iload_n 1, 1) := dk_27 (dk_at dksX3_setFriendly_1 6 rfl rfl)
theorem dX3_setFriendly_31 : decode cX3_setFriendly 31 = .ok (.ifCond .eq 7, 3) := dk_153 0 7 (dk_at dksX3_setFriendly_1 7 rfl rfl)
theorem dX3_setFriendly_34 : decode cX3_setFriendly 34 = .ok (.iconst 1, 1) := dk_4 (dk_at dksX3_setFriendly_1 10 rfl rfl)
theorem dX3_setFriendly_35 : decode cX3_setFriendly 35 = .ok (.goto 4, 3) := dk_167 0 4 (dk_at dksX3_setFriendly_1 11 rfl rfl)
theorem dX3_setFriendly_38 : decode cX3_setFriendly 38 = .ok (.iconst 0, 1) := dk_3 (dk_at dksX3_setFriendly_1 14 rfl rfl)
theorem dX3_setFriendly_39 : decode cX3_setFriendly 39 = .ok (.iastore, 1) := dk_79 (dk_at dksX3_setFriendly_1 15 rfl rfl)
theorem dX3_setFriendly_40 : decode cX3_setFriendly 40 = .ok (.iload_n 2, 1) := dk_28 (dk_at dksX3_setFriendly_1 16 rfl rfl)
theorem dX3_setFriendly_41 : decode cX3_setFriendly 41 = .ok (.ireturn, 1) := dk_172 (dk_at dksX3_setFriendly_1 17 rfl rfl)
/-- PackingDuelModel.setFriendly(Z)Z -/
def zb244 (G : zPg) (C : zO) (args : List Value) (Q : zQ) (Y : zY) (σ : zS) : Prop := ∃ (a0 : Nat) (x1 : Int32), args = [.ref a0, .int x1] ∧ (zput σ G.1 (some a0) 4 5 (.int (0 : Int32)) (fun s1 => zrc s1 (some a0) 4 (fun a12 => zcl C 237 [.ref a12] Y s1 (zqV (fun s10 => zgR s10 (some a0) 4 0 (fun v16 => zaI s10 0 v16 (3 : Int32) (fun v28 => zJ (fun (p30 : Int32) (s31 : zS) => zgR s31 (some a0) 4 0 (fun v33 => zJ (fun (p39 : Int32) (s40 : zS) => zsI s40 G.1 0 v33 (3 : Int32) p39 (fun s49 => zbool p30 ∧ Q (some (.int p30)) s49)) (fun (j41 : Int32 → zS → Prop) => ((x1 = 0) → j41 (0 : Int32) s31) ∧ ((¬ x1 = 0) → j41 (1 : Int32) s31)))) (fun (j32 : Int32 → zS → Prop) => ((¬ v28 = (1 : Int32)) → j32 (0 : Int32) s10) ∧ ((v28 = (1 : Int32)) → j32 (1 : Int32) s10)))))))))
set_option maxHeartbeats 4000000 in
theorem wk244 {l : Launch} {g : zG} {d : Nat} {C : zO} (hG : zGk g) (hC : zSound l g d C) {args : List Value} {Q : zQ} {Y : zY} {σ : zS} (hw : zb244 (zpg g) C args Q Y σ) : zMet l g (d + 1) (⟨"PackingDuelModel", "setFriendly", "(Z)Z"⟩, Cond.code ⟨"PackingDuelModel", "setFriendly", "(Z)Z"⟩ prog_28_method_90_code 3 (Option.some FieldType.boolean)) args σ Q Y := by
  obtain ⟨a0, x1, rfl, hw⟩ := hw
  refine zof hG (by decide +kernel) [false, false] ⟨rfl, rfl, trivial⟩ (Nat.le_of_ble_eq_true rfl) (ls := [some (va_rf (some a0)), some (.int x1), none]) rfl ?_
  intro X hX hR hTb hd1 hd2 hl hg hnm
  subst hl
  subst hg
  have hd : zDep X d := ⟨hd1, hd2⟩
  refine z_aload_n hX dX3_setFriendly_0 rfl (i := 0) rfl ?_
  refine z_iconst hX (v := (0 : Int32)) dX3_setFriendly_1 (by decide) ?_
  obtain ⟨a3, f4, r5, g6, m7, l8, hw⟩ := hw
  refine z_put hX zc4 (k := 5) dX3_setFriendly_2 (Nat.le_of_ble_eq_true rfl) (zlk hX q2474) rfl rfl rfl r5 g6 m7 l8 (z_nm (fun s1 e2 => ?_))
  have hw := hw s1 e2
  refine z_aload_n hX dX3_setFriendly_5 rfl (i := 0) rfl ?_
  obtain ⟨a12, f13, r14, m15, hw⟩ := hw
  refine z_invV hX hd r14 (ci := 4) rfl rfl m15 dX3_setFriendly_6 (hC 237 _ zm237 _ _ _ _ hw) q2911 q2913 qs93 zh7 q2914 q136 zn237 rfl (Nat.le_of_ble_eq_true rfl) (st := []) rfl (zcs8 (Nat.le_of_ble_eq_true rfl)) rfl (zkV (fun s10 hw => ?_)) (zout hX hR hTb)
  refine z_aload_n hX dX3_setFriendly_9 rfl (i := 0) rfl ?_
  obtain ⟨a17, f18, v16, r19, m20, e21, hw⟩ := hw
  refine z_get hX zc4 (k := 0) dX3_setFriendly_10 (Nat.le_of_ble_eq_true rfl) (zlk hX q2469) r19 m20 e21 ?_
  refine z_iconst hX (v := (3 : Int32)) dX3_setFriendly_13 (by decide) ?_
  obtain ⟨a22, n23, f24, r25, m26, i27, hw⟩ := hw
  refine z_iald hX dX3_setFriendly_14 r25 m26 i27 ?_
  revert hw
  generalize f24 (Int32.toNatClampNeg (3 : Int32)) = v28
  intro hw
  refine z_iconst hX (v := (1 : Int32)) dX3_setFriendly_15 (by decide) ?_
  refine zJ_w (P := fun (j : Int32 → zS → Prop) => ∀ (p30 : Int32) (s31 : zS), j p30 s31 → zW X s31 24 [some (va_rf (some a0)), some (.int x1), none] [.int p30]) hw (fun p30 s31 hw => ?_) (fun j32 hj32 hw => ?_)
  · refine z_istore_n hX dX3_setFriendly_24 rfl (i := 2) (Nat.le_of_ble_eq_true rfl) rfl (ls2 := [some (va_rf (some a0)), some (.int x1), some (.int p30)]) rfl ?_
    refine z_aload_n hX dX3_setFriendly_25 rfl (i := 0) rfl ?_
    obtain ⟨a34, f35, v33, r36, m37, e38, hw⟩ := hw
    refine z_get hX zc4 (k := 0) dX3_setFriendly_26 (Nat.le_of_ble_eq_true rfl) (zlk hX q2469) r36 m37 e38 ?_
    refine z_iconst hX (v := (3 : Int32)) dX3_setFriendly_29 (by decide) ?_
    refine z_iload_n hX dX3_setFriendly_30 rfl (i := 1) rfl ?_
    refine zJ_w (P := fun (j : Int32 → zS → Prop) => ∀ (p39 : Int32) (s40 : zS), j p39 s40 → zW X s40 39 [none, none, some (.int p30)] [.int p39, .int (3 : Int32), va_rf v33]) hw (fun p39 s40 hw => ?_) (fun j41 hj41 hw => ?_)
    · obtain ⟨a42, n43, f44, r45, g46, m47, i48, hw⟩ := hw
      refine z_iast hX dX3_setFriendly_39 r45 g46 m47 i48 (z_nm (fun s49 e50 => ?_))
      have hw := hw s49 e50
      refine z_iload_n hX dX3_setFriendly_40 rfl (i := 2) rfl ?_
      exact z_ireturn hX hR dX3_setFriendly_41 (zn_z hw.1) hw.2
    · refine z_if_eq hX dX3_setFriendly_31 (tgt := 38) rfl (fun c51 => ?_) (fun c51 => ?_)
      · have hw := hw.1 c51
        refine z_iconst hX (v := (0 : Int32)) dX3_setFriendly_38 (by decide) ?_
        refine z_sub (ls' := [none, none, some (.int p30)]) (zsN (zsN (zsS (zs0)))) ?_
        exact hj41 _ _ hw
      · have hw := hw.2 c51
        refine z_iconst hX (v := (1 : Int32)) dX3_setFriendly_34 (by decide) ?_
        refine z_goto hX dX3_setFriendly_35 (tgt := 39) rfl ?_
        refine z_sub (ls' := [none, none, some (.int p30)]) (zsN (zsN (zsS (zs0)))) ?_
        exact hj41 _ _ hw
  · refine z_icmp_ne hX dX3_setFriendly_16 (tgt := 23) rfl (fun c52 => ?_) (fun c52 => ?_)
    · have hw := hw.1 c52
      refine z_iconst hX (v := (0 : Int32)) dX3_setFriendly_23 (by decide) ?_
      exact hj32 _ _ hw
    · have hw := hw.2 c52
      refine z_iconst hX (v := (1 : Int32)) dX3_setFriendly_19 (by decide) ?_
      refine z_goto hX dX3_setFriendly_20 (tgt := 24) rfl ?_
      exact hj32 _ _ hw
abbrev cX3_addPlan : ByteArray := prog_28_method_92_code
def yX3_addPlan : MethodName := ⟨RX3, "addPlan", "(I)I"⟩
def dkwX3_addPlan_0 : List UInt8 := [42, 4, 27, 182, 1, 98, 172]
abbrev dktX3_addPlan_0 : List UInt8 := dkwX3_addPlan_0 ++ []
theorem dksX3_addPlan_0 : cX3_addPlan.data.toList.drop 0 = dktX3_addPlan_0 := by decide +kernel
theorem dX3_addPlan_0 : decode cX3_addPlan 0 = .ok (.aload_n 0, 1) := dk_42 (dk_at dksX3_addPlan_0 0 rfl rfl)
theorem dX3_addPlan_1 : decode cX3_addPlan 1 = .ok (.iconst 1, 1) := dk_4 (dk_at dksX3_addPlan_0 1 rfl rfl)
theorem dX3_addPlan_2 : decode cX3_addPlan 2 = .ok (.iload_n 1, 1) := dk_27 (dk_at dksX3_addPlan_0 2 rfl rfl)
theorem dX3_addPlan_3 : decode cX3_addPlan 3 = .ok (.invokevirtual 354, 3) := dk_182 1 98 (dk_at dksX3_addPlan_0 3 rfl rfl)
theorem dX3_addPlan_6 : decode cX3_addPlan 6 = .ok (.ireturn, 1) := dk_172 (dk_at dksX3_addPlan_0 6 rfl rfl)
/-- PackingDuelModel.addPlan(I)I -/
def zb245 (G : zPg) (C : zO) (args : List Value) (Q : zQ) (Y : zY) (σ : zS) : Prop := ∃ (a0 : Nat) (x1 : Int32), args = [.ref a0, .int x1] ∧ (zrc σ (some a0) 4 (fun a4 => zcl C 246 [.ref a4, .int (1 : Int32), .int x1] Y σ (zqI (fun v1 s2 => Q (some (.int v1)) s2))))
set_option maxHeartbeats 4000000 in
theorem wk245 {l : Launch} {g : zG} {d : Nat} {C : zO} (hG : zGk g) (hC : zSound l g d C) {args : List Value} {Q : zQ} {Y : zY} {σ : zS} (hw : zb245 (zpg g) C args Q Y σ) : zMet l g (d + 1) (⟨"PackingDuelModel", "addPlan", "(I)I"⟩, Cond.code ⟨"PackingDuelModel", "addPlan", "(I)I"⟩ prog_28_method_92_code 2 (Option.some FieldType.int)) args σ Q Y := by
  obtain ⟨a0, x1, rfl, hw⟩ := hw
  refine zof hG (by decide +kernel) [false, false] ⟨rfl, rfl, trivial⟩ (Nat.le_of_ble_eq_true rfl) (ls := [some (va_rf (some a0)), some (.int x1)]) rfl ?_
  intro X hX hR hTb hd1 hd2 hl hg hnm
  subst hl
  subst hg
  have hd : zDep X d := ⟨hd1, hd2⟩
  refine z_aload_n hX dX3_addPlan_0 rfl (i := 0) rfl ?_
  refine z_iconst hX (v := (1 : Int32)) dX3_addPlan_1 (by decide) ?_
  refine z_iload_n hX dX3_addPlan_2 rfl (i := 1) rfl ?_
  obtain ⟨a4, f5, r6, m7, hw⟩ := hw
  refine z_invV hX hd r6 (ci := 4) rfl rfl m7 dX3_addPlan_3 (hC 246 _ zm246 _ _ _ _ hw) q2946 q2948 qs97 zh7 q2949 q136 zn246 rfl (Nat.le_of_ble_eq_true rfl) (st := []) rfl (zcs8 (Nat.le_of_ble_eq_true rfl)) rfl (zkI (fun v1 s2 hw => ?_)) (zout hX hR hTb)
  exact z_ireturn hX hR dX3_addPlan_6 rfl hw
abbrev cX3_list : ByteArray := prog_28_method_91_code
def yX3_list : MethodName := ⟨RX3, "list", "(ZI)I"⟩
def dkwX3_list_3 : List UInt8 := [4, 96, 79, 42, 27, 182, 0, 158, 4, 100, 172]
abbrev dktX3_list_3 : List UInt8 := dkwX3_list_3 ++ []
def dkwX3_list_2 : List UInt8 := [180, 0, 9, 27, 42, 27, 182, 0, 158, 184, 0, 154, 28, 79, 42, 180, 0, 9, 27, 184, 0, 150, 92, 46]
abbrev dktX3_list_2 : List UInt8 := dkwX3_list_2 ++ dktX3_list_3
def dkwX3_list_1 : List UInt8 := [8, 160, 0, 6, 16, 253, 172, 42, 28, 182, 0, 125, 156, 0, 6, 16, 254, 172, 42, 182, 1, 82, 42]
abbrev dktX3_list_1 : List UInt8 := dkwX3_list_1 ++ dktX3_list_2
def dkwX3_list_0 : List UInt8 := [42, 3, 181, 0, 103, 42, 28, 182, 0, 121, 154, 0, 9, 42, 4, 182, 1, 33, 172, 42, 27, 182, 0, 158]
abbrev dktX3_list_0 : List UInt8 := dkwX3_list_0 ++ dktX3_list_1
theorem dksX3_list_0 : cX3_list.data.toList.drop 0 = dktX3_list_0 := by decide +kernel
theorem dksX3_list_1 : cX3_list.data.toList.drop 24 = dktX3_list_1 := dk_seg dksX3_list_0 24 rfl rfl
theorem dksX3_list_2 : cX3_list.data.toList.drop 47 = dktX3_list_2 := dk_seg dksX3_list_1 23 rfl rfl
theorem dksX3_list_3 : cX3_list.data.toList.drop 71 = dktX3_list_3 := dk_seg dksX3_list_2 24 rfl rfl
theorem dX3_list_0 : decode cX3_list 0 = .ok (.aload_n 0, 1) := dk_42 (dk_at dksX3_list_0 0 rfl rfl)
theorem dX3_list_1 : decode cX3_list 1 = .ok (.iconst 0, 1) := dk_3 (dk_at dksX3_list_0 1 rfl rfl)
theorem dX3_list_2 : decode cX3_list 2 = .ok (.putfield 103, 3) := dk_181 0 103 (dk_at dksX3_list_0 2 rfl rfl)
theorem dX3_list_5 : decode cX3_list 5 = .ok (.aload_n 0, 1) := dk_42 (dk_at dksX3_list_0 5 rfl rfl)
theorem dX3_list_6 : decode cX3_list 6 = .ok (.iload_n 2, 1) := dk_28 (dk_at dksX3_list_0 6 rfl rfl)
theorem dX3_list_7 : decode cX3_list 7 = .ok (.invokevirtual 121, 3) := dk_182 0 121 (dk_at dksX3_list_0 7 rfl rfl)
theorem dX3_list_10 : decode cX3_list 10 = .ok (.ifCond .ne 9, 3) := dk_154 0 9 (dk_at dksX3_list_0 10 rfl rfl)
theorem dX3_list_13 : decode cX3_list 13 = .ok (.aload_n 0, 1) := dk_42 (dk_at dksX3_list_0 13 rfl rfl)
theorem dX3_list_14 : decode cX3_list 14 = .ok (.iconst 1, 1) := dk_4 (dk_at dksX3_list_0 14 rfl rfl)
theorem dX3_list_15 : decode cX3_list 15 = .ok (.invokevirtual 289, 3) := dk_182 1 33 (dk_at dksX3_list_0 15 rfl rfl)
theorem dX3_list_18 : decode cX3_list 18 = .ok (.ireturn, 1) := dk_172 (dk_at dksX3_list_0 18 rfl rfl)
theorem dX3_list_19 : decode cX3_list 19 = .ok (.aload_n 0, 1) := dk_42 (dk_at dksX3_list_0 19 rfl rfl)
theorem dX3_list_20 : decode cX3_list 20 = .ok (.iload_n 1, 1) := dk_27 (dk_at dksX3_list_0 20 rfl rfl)
theorem dX3_list_21 : decode cX3_list 21 = .ok (.invokevirtual 158, 3) := dk_182 0 158 (dk_at dksX3_list_0 21 rfl rfl)
theorem dX3_list_24 : decode cX3_list 24 = .ok (.iconst 5, 1) := dk_8 (dk_at dksX3_list_1 0 rfl rfl)
theorem dX3_list_25 : decode cX3_list 25 = .ok (.if_icmp .ne 6, 3) := dk_160 0 6 (dk_at dksX3_list_1 1 rfl rfl)
theorem dX3_list_28 : decode cX3_list 28 = .ok (.bipush (-3), 2) := dk_16 253 (dk_at dksX3_list_1 4 rfl rfl)
theorem dX3_list_30 : decode cX3_list 30 = .ok (.ireturn, 1) := dk_172 (dk_at dksX3_list_1 6 rfl rfl)
theorem dX3_list_31 : decode cX3_list 31 = .ok (.aload_n 0, 1) := dk_42 (dk_at dksX3_list_1 7 rfl rfl)
theorem dX3_list_32 : decode cX3_list 32 = .ok (.iload_n 2, 1) := dk_28 (dk_at dksX3_list_1 8 rfl rfl)
theorem dX3_list_33 : decode cX3_list 33 = .ok (.invokevirtual 125, 3) := dk_182 0 125 (dk_at dksX3_list_1 9 rfl rfl)
theorem dX3_list_36 : decode cX3_list 36 = .ok (.ifCond .ge 6, 3) := dk_156 0 6 (dk_at dksX3_list_1 12 rfl rfl)
theorem dX3_list_39 : decode cX3_list 39 = .ok (.bipush (-2), 2) := dk_16 254 (dk_at dksX3_list_1 15 rfl rfl)
theorem dX3_list_41 : decode cX3_list 41 = .ok (.ireturn, 1) := dk_172 (dk_at dksX3_list_1 17 rfl rfl)
theorem dX3_list_42 : decode cX3_list 42 = .ok (.aload_n 0, 1) := dk_42 (dk_at dksX3_list_1 18 rfl rfl)
theorem dX3_list_43 : decode cX3_list 43 = .ok (.invokevirtual 338, 3) := dk_182 1 82 (dk_at dksX3_list_1 19 rfl rfl)
theorem dX3_list_46 : decode cX3_list 46 = .ok (.aload_n 0, 1) := dk_42 (dk_at dksX3_list_1 22 rfl rfl)
theorem dX3_list_47 : decode cX3_list 47 = .ok (.getfield 9, 3) := dk_180 0 9 (dk_at dksX3_list_2 0 rfl rfl)
theorem dX3_list_50 : decode cX3_list 50 = .ok (.iload_n 1, 1) := dk_27 (dk_at dksX3_list_2 3 rfl rfl)
theorem dX3_list_51 : decode cX3_list 51 = .ok (.aload_n 0, 1) := dk_42 (dk_at dksX3_list_2 4 rfl rfl)
theorem dX3_list_52 : decode cX3_list 52 = .ok (.iload_n 1, 1) := dk_27 (dk_at dksX3_list_2 5 rfl rfl)
theorem dX3_list_53 : decode cX3_list 53 = .ok (.invokevirtual 158, 3) := dk_182 0 158 (dk_at dksX3_list_2 6 rfl rfl)
theorem dX3_list_56 : decode cX3_list 56 = .ok (.invokestatic 154, 3) := dk_184 0 154 (dk_at dksX3_list_2 9 rfl rfl)
theorem dX3_list_59 : decode cX3_list 59 = .ok (.iload_n 2, 1) := dk_28 (dk_at dksX3_list_2 12 rfl rfl)
theorem dX3_list_60 : decode cX3_list 60 = .ok (.iastore, 1) := dk_79 (dk_at dksX3_list_2 13 rfl rfl)
theorem dX3_list_61 : decode cX3_list 61 = .ok (.aload_n 0, 1) := dk_42 (dk_at dksX3_list_2 14 rfl rfl)
theorem dX3_list_62 : decode cX3_list 62 = .ok (.getfield 9, 3) := dk_180 0 9 (dk_at dksX3_list_2 15 rfl rfl)
theorem dX3_list_65 : decode cX3_list 65 = .ok (.iload_n 1, 1) := dk_27 (dk_at dksX3_list_2 18 rfl rfl)
theorem dX3_list_66 : decode cX3_list 66 = .ok (.invokestatic 150, 3) := dk_184 0 150 (dk_at dksX3_list_2 19 rfl rfl)
theorem dX3_list_69 : decode cX3_list 69 = .ok (.dup2, 1) := dk_92 (dk_at dksX3_list_2 22 rfl rfl)
theorem dX3_list_70 : decode cX3_list 70 = .ok (.iaload, 1) := dk_46 (dk_at dksX3_list_2 23 rfl rfl)
theorem dX3_list_71 : decode cX3_list 71 = .ok (.iconst 1, 1) := dk_4 (dk_at dksX3_list_3 0 rfl rfl)
theorem dX3_list_72 : decode cX3_list 72 = .ok (.iadd, 1) := dk_96 (dk_at dksX3_list_3 1 rfl rfl)
theorem dX3_list_73 : decode cX3_list 73 = .ok (.iastore, 1) := dk_79 (dk_at dksX3_list_3 2 rfl rfl)
theorem dX3_list_74 : decode cX3_list 74 = .ok (.aload_n 0, 1) := dk_42 (dk_at dksX3_list_3 3 rfl rfl)
theorem dX3_list_75 : decode cX3_list 75 = .ok (.iload_n 1, 1) := dk_27 (dk_at dksX3_list_3 4 rfl rfl)
theorem dX3_list_76 : decode cX3_list 76 = .ok (.invokevirtual 158, 3) := dk_182 0 158 (dk_at dksX3_list_3 5 rfl rfl)
theorem dX3_list_79 : decode cX3_list 79 = .ok (.iconst 1, 1) := dk_4 (dk_at dksX3_list_3 8 rfl rfl)
theorem dX3_list_80 : decode cX3_list 80 = .ok (.isub, 1) := dk_100 (dk_at dksX3_list_3 9 rfl rfl)
theorem dX3_list_81 : decode cX3_list 81 = .ok (.ireturn, 1) := dk_172 (dk_at dksX3_list_3 10 rfl rfl)
/-- PackingDuelModel.list(ZI)I -/
def zb246 (G : zPg) (C : zO) (args : List Value) (Q : zQ) (Y : zY) (σ : zS) : Prop := ∃ (a0 : Nat) (x1 : Int32) (x2 : Int32), args = [.ref a0, .int x1, .int x2] ∧ (zput σ G.1 (some a0) 4 5 (.int (0 : Int32)) (fun s1 => zrc s1 (some a0) 4 (fun a12 => zcl C 169 [.ref a12, .int x2] Y s1 (zqI (fun v9 s10 => ((¬ v9 = 0) → zrc s10 (some a0) 4 (fun a20 => zcl C 189 [.ref a20, .int x1] Y s10 (zqI (fun v17 s18 => ((¬ v17 = (5 : Int32)) → zrc s18 (some a0) 4 (fun a28 => zcl C 160 [.ref a28, .int x2] Y s18 (zqI (fun v25 s26 => ((0 ≤ v25) → zrc s26 (some a0) 4 (fun a36 => zcl C 237 [.ref a36] Y s26 (zqV (fun s34 => zgR s34 (some a0) 4 0 (fun v40 => zrc s34 (some a0) 4 (fun a49 => zcl C 189 [.ref a49, .int x1] Y s34 (zqI (fun v46 s47 => zcl C 192 [.int x1, .int v46] Y s47 (zqI (fun v53 s54 => zsI s54 G.1 0 v40 v53 x2 (fun s63 => zgR s63 (some a0) 4 0 (fun v65 => zcl C 190 [.int x1] Y s63 (zqI (fun v71 s72 => zaI s72 0 v65 v71 (fun v80 => zsI s72 G.1 0 v65 v71 (v80 + (1 : Int32)) (fun s89 => zrc s89 (some a0) 4 (fun a94 => zcl C 189 [.ref a94, .int x1] Y s89 (zqI (fun v91 s92 => Q (some (.int (v91 - (1 : Int32)))) s92))))))))))))))))))) ∧ ((¬ 0 ≤ v25) → Q (some (.int (-2 : Int32))) s26))))) ∧ ((v17 = (5 : Int32)) → Q (some (.int (-3 : Int32))) s18))))) ∧ ((v9 = 0) → zrc s10 (some a0) 4 (fun a101 => zcl C 163 [.ref a101, .int (1 : Int32)] Y s10 (zqI (fun v98 s99 => Q (some (.int v98)) s99)))))))))
set_option maxHeartbeats 4000000 in
theorem wk246 {l : Launch} {g : zG} {d : Nat} {C : zO} (hG : zGk g) (hC : zSound l g d C) {args : List Value} {Q : zQ} {Y : zY} {σ : zS} (hw : zb246 (zpg g) C args Q Y σ) : zMet l g (d + 1) (⟨"PackingDuelModel", "list", "(ZI)I"⟩, Cond.code ⟨"PackingDuelModel", "list", "(ZI)I"⟩ prog_28_method_91_code 3 (Option.some FieldType.int)) args σ Q Y := by
  obtain ⟨a0, x1, x2, rfl, hw⟩ := hw
  refine zof hG (by decide +kernel) [false, false, false] ⟨rfl, rfl, rfl, trivial⟩ (Nat.le_of_ble_eq_true rfl) (ls := [some (va_rf (some a0)), some (.int x1), some (.int x2)]) rfl ?_
  intro X hX hR hTb hd1 hd2 hl hg hnm
  subst hl
  subst hg
  have hd : zDep X d := ⟨hd1, hd2⟩
  refine z_aload_n hX dX3_list_0 rfl (i := 0) rfl ?_
  refine z_iconst hX (v := (0 : Int32)) dX3_list_1 (by decide) ?_
  obtain ⟨a3, f4, r5, g6, m7, l8, hw⟩ := hw
  refine z_put hX zc4 (k := 5) dX3_list_2 (Nat.le_of_ble_eq_true rfl) (zlk hX q2474) rfl rfl rfl r5 g6 m7 l8 (z_nm (fun s1 e2 => ?_))
  have hw := hw s1 e2
  refine z_aload_n hX dX3_list_5 rfl (i := 0) rfl ?_
  refine z_iload_n hX dX3_list_6 rfl (i := 2) rfl ?_
  obtain ⟨a12, f13, r14, m15, hw⟩ := hw
  refine z_invV hX hd r14 (ci := 4) rfl rfl m15 dX3_list_7 (hC 169 _ zm169 _ _ _ _ hw) q2643 q2645 qs52 zh7 q2646 q136 zn169 rfl (Nat.le_of_ble_eq_true rfl) (st := []) rfl (zcs8 (Nat.le_of_ble_eq_true rfl)) rfl (zkI (fun v9 s10 hw => ?_)) (zout hX hR hTb)
  refine z_if_ne hX dX3_list_10 (tgt := 19) rfl (fun c16 => ?_) (fun c16 => ?_)
  · have hw := hw.1 c16
    refine z_aload_n hX dX3_list_19 rfl (i := 0) rfl ?_
    refine z_iload_n hX dX3_list_20 rfl (i := 1) rfl ?_
    obtain ⟨a20, f21, r22, m23, hw⟩ := hw
    refine z_invV hX hd r22 (ci := 4) rfl rfl m23 dX3_list_21 (hC 189 _ zm189 _ _ _ _ hw) q2723 q2725 qs65 zh7 q2726 q136 zn189 rfl (Nat.le_of_ble_eq_true rfl) (st := []) rfl (zcs8 (Nat.le_of_ble_eq_true rfl)) rfl (zkI (fun v17 s18 hw => ?_)) (zout hX hR hTb)
    refine z_iconst hX (v := (5 : Int32)) dX3_list_24 (by decide) ?_
    refine z_icmp_ne hX dX3_list_25 (tgt := 31) rfl (fun c24 => ?_) (fun c24 => ?_)
    · have hw := hw.1 c24
      refine z_aload_n hX dX3_list_31 rfl (i := 0) rfl ?_
      refine z_iload_n hX dX3_list_32 rfl (i := 2) rfl ?_
      obtain ⟨a28, f29, r30, m31, hw⟩ := hw
      refine z_invV hX hd r30 (ci := 4) rfl rfl m31 dX3_list_33 (hC 160 _ zm160 _ _ _ _ hw) q2609 q2611 qs47 zh7 q2612 q136 zn160 rfl (Nat.le_of_ble_eq_true rfl) (st := []) rfl (zcs8 (Nat.le_of_ble_eq_true rfl)) rfl (zkI (fun v25 s26 hw => ?_)) (zout hX hR hTb)
      refine z_if_ge hX dX3_list_36 (tgt := 42) rfl (fun c32 => ?_) (fun c32 => ?_)
      · have hw := hw.1 c32
        refine z_aload_n hX dX3_list_42 rfl (i := 0) rfl ?_
        obtain ⟨a36, f37, r38, m39, hw⟩ := hw
        refine z_invV hX hd r38 (ci := 4) rfl rfl m39 dX3_list_43 (hC 237 _ zm237 _ _ _ _ hw) q2911 q2913 qs93 zh7 q2914 q136 zn237 rfl (Nat.le_of_ble_eq_true rfl) (st := []) rfl (zcs8 (Nat.le_of_ble_eq_true rfl)) rfl (zkV (fun s34 hw => ?_)) (zout hX hR hTb)
        refine z_aload_n hX dX3_list_46 rfl (i := 0) rfl ?_
        obtain ⟨a41, f42, v40, r43, m44, e45, hw⟩ := hw
        refine z_get hX zc4 (k := 0) dX3_list_47 (Nat.le_of_ble_eq_true rfl) (zlk hX q2469) r43 m44 e45 ?_
        refine z_iload_n hX dX3_list_50 rfl (i := 1) rfl ?_
        refine z_aload_n hX dX3_list_51 rfl (i := 0) rfl ?_
        refine z_iload_n hX dX3_list_52 rfl (i := 1) rfl ?_
        obtain ⟨a49, f50, r51, m52, hw⟩ := hw
        refine z_invV hX hd r51 (ci := 4) rfl rfl m52 dX3_list_53 (hC 189 _ zm189 _ _ _ _ hw) q2723 q2725 qs65 zh7 q2726 q136 zn189 rfl (Nat.le_of_ble_eq_true rfl) (st := [.int x1, va_rf v40]) rfl (zcs8 (Nat.le_of_ble_eq_true rfl)) rfl (zkI (fun v46 s47 hw => ?_)) (zout hX hR hTb)
        refine z_invS hX hd dX3_list_56 (hC 192 _ zm192 _ _ _ _ hw) q2734 q2735 zh7 q2736 q136 zn192 rfl (Nat.le_of_ble_eq_true rfl) (st := [va_rf v40]) rfl (zcs8 (Nat.le_of_ble_eq_true rfl)) rfl (zkI (fun v53 s54 hw => ?_)) (zout hX hR hTb)
        refine z_iload_n hX dX3_list_59 rfl (i := 2) rfl ?_
        obtain ⟨a56, n57, f58, r59, g60, m61, i62, hw⟩ := hw
        refine z_iast hX dX3_list_60 r59 g60 m61 i62 (z_nm (fun s63 e64 => ?_))
        have hw := hw s63 e64
        refine z_aload_n hX dX3_list_61 rfl (i := 0) rfl ?_
        obtain ⟨a66, f67, v65, r68, m69, e70, hw⟩ := hw
        refine z_get hX zc4 (k := 0) dX3_list_62 (Nat.le_of_ble_eq_true rfl) (zlk hX q2469) r68 m69 e70 ?_
        refine z_iload_n hX dX3_list_65 rfl (i := 1) rfl ?_
        refine z_invS hX hd dX3_list_66 (hC 190 _ zm190 _ _ _ _ hw) q2727 q2728 zh7 q2729 q136 zn190 rfl (Nat.le_of_ble_eq_true rfl) (st := [va_rf v65]) rfl (zcs8 (Nat.le_of_ble_eq_true rfl)) rfl (zkI (fun v71 s72 hw => ?_)) (zout hX hR hTb)
        refine z_dup2 hX dX3_list_69 rfl (zc_rf _) ?_
        obtain ⟨a74, n75, f76, r77, m78, i79, hw⟩ := hw
        refine z_iald hX dX3_list_70 r77 m78 i79 ?_
        revert hw
        generalize f76 (Int32.toNatClampNeg v71) = v80
        intro hw
        refine z_iconst hX (v := (1 : Int32)) dX3_list_71 (by decide) ?_
        refine z_iadd hX dX3_list_72 ?_
        obtain ⟨a82, n83, f84, r85, g86, m87, i88, hw⟩ := hw
        refine z_iast hX dX3_list_73 r85 g86 m87 i88 (z_nm (fun s89 e90 => ?_))
        have hw := hw s89 e90
        refine z_aload_n hX dX3_list_74 rfl (i := 0) rfl ?_
        refine z_iload_n hX dX3_list_75 rfl (i := 1) rfl ?_
        obtain ⟨a94, f95, r96, m97, hw⟩ := hw
        refine z_invV hX hd r96 (ci := 4) rfl rfl m97 dX3_list_76 (hC 189 _ zm189 _ _ _ _ hw) q2723 q2725 qs65 zh7 q2726 q136 zn189 rfl (Nat.le_of_ble_eq_true rfl) (st := []) rfl (zcs8 (Nat.le_of_ble_eq_true rfl)) rfl (zkI (fun v91 s92 hw => ?_)) (zout hX hR hTb)
        refine z_iconst hX (v := (1 : Int32)) dX3_list_79 (by decide) ?_
        refine z_isub hX dX3_list_80 ?_
        exact z_ireturn hX hR dX3_list_81 rfl hw
      · have hw := hw.2 c32
        refine z_bipush hX (v := (-2 : Int32)) dX3_list_39 (by decide) ?_
        exact z_ireturn hX hR dX3_list_41 rfl hw
    · have hw := hw.2 c24
      refine z_bipush hX (v := (-3 : Int32)) dX3_list_28 (by decide) ?_
      exact z_ireturn hX hR dX3_list_30 rfl hw
  · have hw := hw.2 c16
    refine z_aload_n hX dX3_list_13 rfl (i := 0) rfl ?_
    refine z_iconst hX (v := (1 : Int32)) dX3_list_14 (by decide) ?_
    obtain ⟨a101, f102, r103, m104, hw⟩ := hw
    refine z_invV hX hd r103 (ci := 4) rfl rfl m104 dX3_list_15 (hC 163 _ zm163 _ _ _ _ hw) q2620 q2622 qs49 zh7 q2623 q136 zn163 rfl (Nat.le_of_ble_eq_true rfl) (st := []) rfl (zcs8 (Nat.le_of_ble_eq_true rfl)) rfl (zkI (fun v98 s99 hw => ?_)) (zout hX hR hTb)
    exact z_ireturn hX hR dX3_list_18 rfl hw
abbrev cX3_addAnswer : ByteArray := prog_28_method_93_code
def yX3_addAnswer : MethodName := ⟨RX3, "addAnswer", "(I)I"⟩
def dkwX3_addAnswer_0 : List UInt8 := [42, 3, 27, 182, 1, 98, 172]
abbrev dktX3_addAnswer_0 : List UInt8 := dkwX3_addAnswer_0 ++ []
theorem dksX3_addAnswer_0 : cX3_addAnswer.data.toList.drop 0 = dktX3_addAnswer_0 := by decide +kernel
theorem dX3_addAnswer_0 : decode cX3_addAnswer 0 = .ok (.aload_n 0, 1) := dk_42 (dk_at dksX3_addAnswer_0 0 rfl rfl)
theorem dX3_addAnswer_1 : decode cX3_addAnswer 1 = .ok (.iconst 0, 1) := dk_3 (dk_at dksX3_addAnswer_0 1 rfl rfl)
theorem dX3_addAnswer_2 : decode cX3_addAnswer 2 = .ok (.iload_n 1, 1) := dk_27 (dk_at dksX3_addAnswer_0 2 rfl rfl)
theorem dX3_addAnswer_3 : decode cX3_addAnswer 3 = .ok (.invokevirtual 354, 3) := dk_182 1 98 (dk_at dksX3_addAnswer_0 3 rfl rfl)
theorem dX3_addAnswer_6 : decode cX3_addAnswer 6 = .ok (.ireturn, 1) := dk_172 (dk_at dksX3_addAnswer_0 6 rfl rfl)
/-- PackingDuelModel.addAnswer(I)I -/
def zb247 (G : zPg) (C : zO) (args : List Value) (Q : zQ) (Y : zY) (σ : zS) : Prop := ∃ (a0 : Nat) (x1 : Int32), args = [.ref a0, .int x1] ∧ (zrc σ (some a0) 4 (fun a4 => zcl C 246 [.ref a4, .int (0 : Int32), .int x1] Y σ (zqI (fun v1 s2 => Q (some (.int v1)) s2))))
set_option maxHeartbeats 4000000 in
theorem wk247 {l : Launch} {g : zG} {d : Nat} {C : zO} (hG : zGk g) (hC : zSound l g d C) {args : List Value} {Q : zQ} {Y : zY} {σ : zS} (hw : zb247 (zpg g) C args Q Y σ) : zMet l g (d + 1) (⟨"PackingDuelModel", "addAnswer", "(I)I"⟩, Cond.code ⟨"PackingDuelModel", "addAnswer", "(I)I"⟩ prog_28_method_93_code 2 (Option.some FieldType.int)) args σ Q Y := by
  obtain ⟨a0, x1, rfl, hw⟩ := hw
  refine zof hG (by decide +kernel) [false, false] ⟨rfl, rfl, trivial⟩ (Nat.le_of_ble_eq_true rfl) (ls := [some (va_rf (some a0)), some (.int x1)]) rfl ?_
  intro X hX hR hTb hd1 hd2 hl hg hnm
  subst hl
  subst hg
  have hd : zDep X d := ⟨hd1, hd2⟩
  refine z_aload_n hX dX3_addAnswer_0 rfl (i := 0) rfl ?_
  refine z_iconst hX (v := (0 : Int32)) dX3_addAnswer_1 (by decide) ?_
  refine z_iload_n hX dX3_addAnswer_2 rfl (i := 1) rfl ?_
  obtain ⟨a4, f5, r6, m7, hw⟩ := hw
  refine z_invV hX hd r6 (ci := 4) rfl rfl m7 dX3_addAnswer_3 (hC 246 _ zm246 _ _ _ _ hw) q2946 q2948 qs97 zh7 q2949 q136 zn246 rfl (Nat.le_of_ble_eq_true rfl) (st := []) rfl (zcs8 (Nat.le_of_ble_eq_true rfl)) rfl (zkI (fun v1 s2 hw => ?_)) (zout hX hR hTb)
  exact z_ireturn hX hR dX3_addAnswer_6 rfl hw
abbrev cX3_drop : ByteArray := prog_28_method_94_code
def yX3_drop : MethodName := ⟨RX3, "drop", "(ZI)I"⟩
def dkwX3_drop_1 : List UInt8 := [42, 27, 28, 182, 0, 164, 42, 27, 182, 0, 158, 172]
abbrev dktX3_drop_1 : List UInt8 := dkwX3_drop_1 ++ []
def dkwX3_drop_0 : List UInt8 := [42, 3, 181, 0, 103, 42, 27, 28, 182, 1, 51, 154, 0, 9, 42, 4, 182, 1, 33, 172, 42, 182, 1, 82]
abbrev dktX3_drop_0 : List UInt8 := dkwX3_drop_0 ++ dktX3_drop_1
theorem dksX3_drop_0 : cX3_drop.data.toList.drop 0 = dktX3_drop_0 := by decide +kernel
theorem dksX3_drop_1 : cX3_drop.data.toList.drop 24 = dktX3_drop_1 := dk_seg dksX3_drop_0 24 rfl rfl
theorem dX3_drop_0 : decode cX3_drop 0 = .ok (.aload_n 0, 1) := dk_42 (dk_at dksX3_drop_0 0 rfl rfl)
theorem dX3_drop_1 : decode cX3_drop 1 = .ok (.iconst 0, 1) := dk_3 (dk_at dksX3_drop_0 1 rfl rfl)
theorem dX3_drop_2 : decode cX3_drop 2 = .ok (.putfield 103, 3) := dk_181 0 103 (dk_at dksX3_drop_0 2 rfl rfl)
theorem dX3_drop_5 : decode cX3_drop 5 = .ok (.aload_n 0, 1) := dk_42 (dk_at dksX3_drop_0 5 rfl rfl)
theorem dX3_drop_6 : decode cX3_drop 6 = .ok (.iload_n 1, 1) := dk_27 (dk_at dksX3_drop_0 6 rfl rfl)
theorem dX3_drop_7 : decode cX3_drop 7 = .ok (.iload_n 2, 1) := dk_28 (dk_at dksX3_drop_0 7 rfl rfl)
theorem dX3_drop_8 : decode cX3_drop 8 = .ok (.invokevirtual 307, 3) := dk_182 1 51 (dk_at dksX3_drop_0 8 rfl rfl)
theorem dX3_drop_11 : decode cX3_drop 11 = .ok (.ifCond .ne 9, 3) := dk_154 0 9 (dk_at dksX3_drop_0 11 rfl rfl)
theorem dX3_drop_14 : decode cX3_drop 14 = .ok (.aload_n 0, 1) := dk_42 (dk_at dksX3_drop_0 14 rfl rfl)
theorem dX3_drop_15 : decode cX3_drop 15 = .ok (.iconst 1, 1) := dk_4 (dk_at dksX3_drop_0 15 rfl rfl)
theorem dX3_drop_16 : decode cX3_drop 16 = .ok (.invokevirtual 289, 3) := dk_182 1 33 (dk_at dksX3_drop_0 16 rfl rfl)
theorem dX3_drop_19 : decode cX3_drop 19 = .ok (.ireturn, 1) := dk_172 (dk_at dksX3_drop_0 19 rfl rfl)
theorem dX3_drop_20 : decode cX3_drop 20 = .ok (.aload_n 0, 1) := dk_42 (dk_at dksX3_drop_0 20 rfl rfl)
theorem dX3_drop_21 : decode cX3_drop 21 = .ok (.invokevirtual 338, 3) := dk_182 1 82 (dk_at dksX3_drop_0 21 rfl rfl)
theorem dX3_drop_24 : decode cX3_drop 24 = .ok (.aload_n 0, 1) := dk_42 (dk_at dksX3_drop_1 0 rfl rfl)
theorem dX3_drop_25 : decode cX3_drop 25 = .ok (.iload_n 1, 1) := dk_27 (dk_at dksX3_drop_1 1 rfl rfl)
theorem dX3_drop_26 : decode cX3_drop 26 = .ok (.iload_n 2, 1) := dk_28 (dk_at dksX3_drop_1 2 rfl rfl)
theorem dX3_drop_27 : decode cX3_drop 27 = .ok (.invokevirtual 164, 3) := dk_182 0 164 (dk_at dksX3_drop_1 3 rfl rfl)
theorem dX3_drop_30 : decode cX3_drop 30 = .ok (.aload_n 0, 1) := dk_42 (dk_at dksX3_drop_1 6 rfl rfl)
theorem dX3_drop_31 : decode cX3_drop 31 = .ok (.iload_n 1, 1) := dk_27 (dk_at dksX3_drop_1 7 rfl rfl)
theorem dX3_drop_32 : decode cX3_drop 32 = .ok (.invokevirtual 158, 3) := dk_182 0 158 (dk_at dksX3_drop_1 8 rfl rfl)
theorem dX3_drop_35 : decode cX3_drop 35 = .ok (.ireturn, 1) := dk_172 (dk_at dksX3_drop_1 11 rfl rfl)
/-- PackingDuelModel.drop(ZI)I -/
def zb248 (G : zPg) (C : zO) (args : List Value) (Q : zQ) (Y : zY) (σ : zS) : Prop := ∃ (a0 : Nat) (x1 : Int32) (x2 : Int32), args = [.ref a0, .int x1, .int x2] ∧ (zput σ G.1 (some a0) 4 5 (.int (0 : Int32)) (fun s1 => zrc s1 (some a0) 4 (fun a12 => zcl C 188 [.ref a12, .int x1, .int x2] Y s1 (zqI (fun v9 s10 => ((¬ v9 = 0) → zrc s10 (some a0) 4 (fun a20 => zcl C 237 [.ref a20] Y s10 (zqV (fun s18 => zrc s18 (some a0) 4 (fun a27 => zcl C 241 [.ref a27, .int x1, .int x2] Y s18 (zqV (fun s25 => zrc s25 (some a0) 4 (fun a34 => zcl C 189 [.ref a34, .int x1] Y s25 (zqI (fun v31 s32 => Q (some (.int v31)) s32)))))))))) ∧ ((v9 = 0) → zrc s10 (some a0) 4 (fun a41 => zcl C 163 [.ref a41, .int (1 : Int32)] Y s10 (zqI (fun v38 s39 => Q (some (.int v38)) s39)))))))))
set_option maxHeartbeats 4000000 in
theorem wk248 {l : Launch} {g : zG} {d : Nat} {C : zO} (hG : zGk g) (hC : zSound l g d C) {args : List Value} {Q : zQ} {Y : zY} {σ : zS} (hw : zb248 (zpg g) C args Q Y σ) : zMet l g (d + 1) (⟨"PackingDuelModel", "drop", "(ZI)I"⟩, Cond.code ⟨"PackingDuelModel", "drop", "(ZI)I"⟩ prog_28_method_94_code 3 (Option.some FieldType.int)) args σ Q Y := by
  obtain ⟨a0, x1, x2, rfl, hw⟩ := hw
  refine zof hG (by decide +kernel) [false, false, false] ⟨rfl, rfl, rfl, trivial⟩ (Nat.le_of_ble_eq_true rfl) (ls := [some (va_rf (some a0)), some (.int x1), some (.int x2)]) rfl ?_
  intro X hX hR hTb hd1 hd2 hl hg hnm
  subst hl
  subst hg
  have hd : zDep X d := ⟨hd1, hd2⟩
  refine z_aload_n hX dX3_drop_0 rfl (i := 0) rfl ?_
  refine z_iconst hX (v := (0 : Int32)) dX3_drop_1 (by decide) ?_
  obtain ⟨a3, f4, r5, g6, m7, l8, hw⟩ := hw
  refine z_put hX zc4 (k := 5) dX3_drop_2 (Nat.le_of_ble_eq_true rfl) (zlk hX q2474) rfl rfl rfl r5 g6 m7 l8 (z_nm (fun s1 e2 => ?_))
  have hw := hw s1 e2
  refine z_aload_n hX dX3_drop_5 rfl (i := 0) rfl ?_
  refine z_iload_n hX dX3_drop_6 rfl (i := 1) rfl ?_
  refine z_iload_n hX dX3_drop_7 rfl (i := 2) rfl ?_
  obtain ⟨a12, f13, r14, m15, hw⟩ := hw
  refine z_invV hX hd r14 (ci := 4) rfl rfl m15 dX3_drop_8 (hC 188 _ zm188 _ _ _ _ hw) q2719 q2721 qs64 zh7 q2722 q136 zn188 rfl (Nat.le_of_ble_eq_true rfl) (st := []) rfl (zcs8 (Nat.le_of_ble_eq_true rfl)) rfl (zkI (fun v9 s10 hw => ?_)) (zout hX hR hTb)
  refine z_if_ne hX dX3_drop_11 (tgt := 20) rfl (fun c16 => ?_) (fun c16 => ?_)
  · have hw := hw.1 c16
    refine z_aload_n hX dX3_drop_20 rfl (i := 0) rfl ?_
    obtain ⟨a20, f21, r22, m23, hw⟩ := hw
    refine z_invV hX hd r22 (ci := 4) rfl rfl m23 dX3_drop_21 (hC 237 _ zm237 _ _ _ _ hw) q2911 q2913 qs93 zh7 q2914 q136 zn237 rfl (Nat.le_of_ble_eq_true rfl) (st := []) rfl (zcs8 (Nat.le_of_ble_eq_true rfl)) rfl (zkV (fun s18 hw => ?_)) (zout hX hR hTb)
    refine z_aload_n hX dX3_drop_24 rfl (i := 0) rfl ?_
    refine z_iload_n hX dX3_drop_25 rfl (i := 1) rfl ?_
    refine z_iload_n hX dX3_drop_26 rfl (i := 2) rfl ?_
    obtain ⟨a27, f28, r29, m30, hw⟩ := hw
    refine z_invV hX hd r29 (ci := 4) rfl rfl m30 dX3_drop_27 (hC 241 _ zm241 _ _ _ _ hw) q2926 q2928 qs96 zh7 q2929 q136 zn241 rfl (Nat.le_of_ble_eq_true rfl) (st := []) rfl (zcs8 (Nat.le_of_ble_eq_true rfl)) rfl (zkV (fun s25 hw => ?_)) (zout hX hR hTb)
    refine z_aload_n hX dX3_drop_30 rfl (i := 0) rfl ?_
    refine z_iload_n hX dX3_drop_31 rfl (i := 1) rfl ?_
    obtain ⟨a34, f35, r36, m37, hw⟩ := hw
    refine z_invV hX hd r36 (ci := 4) rfl rfl m37 dX3_drop_32 (hC 189 _ zm189 _ _ _ _ hw) q2723 q2725 qs65 zh7 q2726 q136 zn189 rfl (Nat.le_of_ble_eq_true rfl) (st := []) rfl (zcs8 (Nat.le_of_ble_eq_true rfl)) rfl (zkI (fun v31 s32 hw => ?_)) (zout hX hR hTb)
    exact z_ireturn hX hR dX3_drop_35 rfl hw
  · have hw := hw.2 c16
    refine z_aload_n hX dX3_drop_14 rfl (i := 0) rfl ?_
    refine z_iconst hX (v := (1 : Int32)) dX3_drop_15 (by decide) ?_
    obtain ⟨a41, f42, r43, m44, hw⟩ := hw
    refine z_invV hX hd r43 (ci := 4) rfl rfl m44 dX3_drop_16 (hC 163 _ zm163 _ _ _ _ hw) q2620 q2622 qs49 zh7 q2623 q136 zn163 rfl (Nat.le_of_ble_eq_true rfl) (st := []) rfl (zcs8 (Nat.le_of_ble_eq_true rfl)) rfl (zkI (fun v38 s39 hw => ?_)) (zout hX hR hTb)
    exact z_ireturn hX hR dX3_drop_19 rfl hw
abbrev cX3_take : ByteArray := prog_28_method_95_code
def yX3_take : MethodName := ⟨RX3, "take", "(I)I"⟩
def dkwX3_take_2 : List UInt8 := [172]
abbrev dktX3_take_2 : List UInt8 := dkwX3_take_2 ++ []
def dkwX3_take_1 : List UInt8 := [61, 28, 153, 0, 9, 19, 1, 101, 28, 100, 172, 42, 182, 1, 82, 42, 27, 182, 1, 102, 42, 182, 1, 67]
abbrev dktX3_take_1 : List UInt8 := dkwX3_take_1 ++ dktX3_take_2
def dkwX3_take_0 : List UInt8 := [42, 3, 181, 0, 103, 42, 27, 182, 1, 36, 154, 0, 9, 42, 4, 182, 1, 33, 172, 42, 27, 182, 1, 73]
abbrev dktX3_take_0 : List UInt8 := dkwX3_take_0 ++ dktX3_take_1
theorem dksX3_take_0 : cX3_take.data.toList.drop 0 = dktX3_take_0 := by decide +kernel
theorem dksX3_take_1 : cX3_take.data.toList.drop 24 = dktX3_take_1 := dk_seg dksX3_take_0 24 rfl rfl
theorem dksX3_take_2 : cX3_take.data.toList.drop 48 = dktX3_take_2 := dk_seg dksX3_take_1 24 rfl rfl
theorem dX3_take_0 : decode cX3_take 0 = .ok (.aload_n 0, 1) := dk_42 (dk_at dksX3_take_0 0 rfl rfl)
theorem dX3_take_1 : decode cX3_take 1 = .ok (.iconst 0, 1) := dk_3 (dk_at dksX3_take_0 1 rfl rfl)
theorem dX3_take_2 : decode cX3_take 2 = .ok (.putfield 103, 3) := dk_181 0 103 (dk_at dksX3_take_0 2 rfl rfl)
theorem dX3_take_5 : decode cX3_take 5 = .ok (.aload_n 0, 1) := dk_42 (dk_at dksX3_take_0 5 rfl rfl)
theorem dX3_take_6 : decode cX3_take 6 = .ok (.iload_n 1, 1) := dk_27 (dk_at dksX3_take_0 6 rfl rfl)
theorem dX3_take_7 : decode cX3_take 7 = .ok (.invokevirtual 292, 3) := dk_182 1 36 (dk_at dksX3_take_0 7 rfl rfl)
theorem dX3_take_10 : decode cX3_take 10 = .ok (.ifCond .ne 9, 3) := dk_154 0 9 (dk_at dksX3_take_0 10 rfl rfl)
theorem dX3_take_13 : decode cX3_take 13 = .ok (.aload_n 0, 1) := dk_42 (dk_at dksX3_take_0 13 rfl rfl)
theorem dX3_take_14 : decode cX3_take 14 = .ok (.iconst 1, 1) := dk_4 (dk_at dksX3_take_0 14 rfl rfl)
theorem dX3_take_15 : decode cX3_take 15 = .ok (.invokevirtual 289, 3) := dk_182 1 33 (dk_at dksX3_take_0 15 rfl rfl)
theorem dX3_take_18 : decode cX3_take 18 = .ok (.ireturn, 1) := dk_172 (dk_at dksX3_take_0 18 rfl rfl)
theorem dX3_take_19 : decode cX3_take 19 = .ok (.aload_n 0, 1) := dk_42 (dk_at dksX3_take_0 19 rfl rfl)
theorem dX3_take_20 : decode cX3_take 20 = .ok (.iload_n 1, 1) := dk_27 (dk_at dksX3_take_0 20 rfl rfl)
theorem dX3_take_21 : decode cX3_take 21 = .ok (.invokevirtual 329, 3) := dk_182 1 73 (dk_at dksX3_take_0 21 rfl rfl)
theorem dX3_take_24 : decode cX3_take 24 = .ok (.istore_n 2, 1) := dk_61 (dk_at dksX3_take_1 0 rfl rfl)
theorem dX3_take_25 : decode cX3_take 25 = .ok (.iload_n 2, 1) := dk_28 (dk_at dksX3_take_1 1 rfl rfl)
theorem dX3_take_26 : decode cX3_take 26 = .ok (.ifCond .eq 9, 3) := dk_153 0 9 (dk_at dksX3_take_1 2 rfl rfl)
theorem dX3_take_29 : decode cX3_take 29 = .ok (.ldc_w 357, 3) := dk_19 1 101 (dk_at dksX3_take_1 5 rfl rfl)
theorem dX3_take_32 : decode cX3_take 32 = .ok (.iload_n 2, 1) := dk_28 (dk_at dksX3_take_1 8 rfl rfl)
theorem dX3_take_33 : decode cX3_take 33 = .ok (.isub, 1) := dk_100 (dk_at dksX3_take_1 9 rfl rfl)
theorem dX3_take_34 : decode cX3_take 34 = .ok (.ireturn, 1) := dk_172 (dk_at dksX3_take_1 10 rfl rfl)
theorem dX3_take_35 : decode cX3_take 35 = .ok (.aload_n 0, 1) := dk_42 (dk_at dksX3_take_1 11 rfl rfl)
theorem dX3_take_36 : decode cX3_take 36 = .ok (.invokevirtual 338, 3) := dk_182 1 82 (dk_at dksX3_take_1 12 rfl rfl)
theorem dX3_take_39 : decode cX3_take 39 = .ok (.aload_n 0, 1) := dk_42 (dk_at dksX3_take_1 15 rfl rfl)
theorem dX3_take_40 : decode cX3_take 40 = .ok (.iload_n 1, 1) := dk_27 (dk_at dksX3_take_1 16 rfl rfl)
theorem dX3_take_41 : decode cX3_take 41 = .ok (.invokevirtual 358, 3) := dk_182 1 102 (dk_at dksX3_take_1 17 rfl rfl)
theorem dX3_take_44 : decode cX3_take 44 = .ok (.aload_n 0, 1) := dk_42 (dk_at dksX3_take_1 20 rfl rfl)
theorem dX3_take_45 : decode cX3_take 45 = .ok (.invokevirtual 323, 3) := dk_182 1 67 (dk_at dksX3_take_1 21 rfl rfl)
theorem dX3_take_48 : decode cX3_take 48 = .ok (.ireturn, 1) := dk_172 (dk_at dksX3_take_2 0 rfl rfl)
/-- PackingDuelModel.take(I)I -/
def zb249 (G : zPg) (C : zO) (args : List Value) (Q : zQ) (Y : zY) (σ : zS) : Prop := ∃ (a0 : Nat) (x1 : Int32), args = [.ref a0, .int x1] ∧ (zput σ G.1 (some a0) 4 5 (.int (0 : Int32)) (fun s1 => zrc s1 (some a0) 4 (fun a12 => zcl C 165 [.ref a12, .int x1] Y s1 (zqI (fun v9 s10 => ((¬ v9 = 0) → zrc s10 (some a0) 4 (fun a20 => zcl C 222 [.ref a20, .int x1] Y s10 (zqI (fun v17 s18 => ((v17 = 0) → zrc s18 (some a0) 4 (fun a28 => zcl C 237 [.ref a28] Y s18 (zqV (fun s26 => zrc s26 (some a0) 4 (fun a35 => zcl C 250 [.ref a35, .int x1] Y s26 (zqV (fun s33 => zrc s33 (some a0) 4 (fun a42 => zcl C 217 [.ref a42] Y s33 (zqI (fun v39 s40 => Q (some (.int v39)) s40)))))))))) ∧ ((¬ v17 = 0) → Q (some (.int ((-1000000000 : Int32) - v17))) s18))))) ∧ ((v9 = 0) → zrc s10 (some a0) 4 (fun a49 => zcl C 163 [.ref a49, .int (1 : Int32)] Y s10 (zqI (fun v46 s47 => Q (some (.int v46)) s47)))))))))
set_option maxHeartbeats 4000000 in
theorem wk249 {l : Launch} {g : zG} {d : Nat} {C : zO} (hG : zGk g) (hC : zSound l g d C) {args : List Value} {Q : zQ} {Y : zY} {σ : zS} (hw : zb249 (zpg g) C args Q Y σ) : zMet l g (d + 1) (⟨"PackingDuelModel", "take", "(I)I"⟩, Cond.code ⟨"PackingDuelModel", "take", "(I)I"⟩ prog_28_method_95_code 3 (Option.some FieldType.int)) args σ Q Y := by
  obtain ⟨a0, x1, rfl, hw⟩ := hw
  refine zof hG (by decide +kernel) [false, false] ⟨rfl, rfl, trivial⟩ (Nat.le_of_ble_eq_true rfl) (ls := [some (va_rf (some a0)), some (.int x1), none]) rfl ?_
  intro X hX hR hTb hd1 hd2 hl hg hnm
  subst hl
  subst hg
  have hd : zDep X d := ⟨hd1, hd2⟩
  refine z_aload_n hX dX3_take_0 rfl (i := 0) rfl ?_
  refine z_iconst hX (v := (0 : Int32)) dX3_take_1 (by decide) ?_
  obtain ⟨a3, f4, r5, g6, m7, l8, hw⟩ := hw
  refine z_put hX zc4 (k := 5) dX3_take_2 (Nat.le_of_ble_eq_true rfl) (zlk hX q2474) rfl rfl rfl r5 g6 m7 l8 (z_nm (fun s1 e2 => ?_))
  have hw := hw s1 e2
  refine z_aload_n hX dX3_take_5 rfl (i := 0) rfl ?_
  refine z_iload_n hX dX3_take_6 rfl (i := 1) rfl ?_
  obtain ⟨a12, f13, r14, m15, hw⟩ := hw
  refine z_invV hX hd r14 (ci := 4) rfl rfl m15 dX3_take_7 (hC 165 _ zm165 _ _ _ _ hw) q2628 q2630 qs50 zh7 q2631 q136 zn165 rfl (Nat.le_of_ble_eq_true rfl) (st := []) rfl (zcs8 (Nat.le_of_ble_eq_true rfl)) rfl (zkI (fun v9 s10 hw => ?_)) (zout hX hR hTb)
  refine z_if_ne hX dX3_take_10 (tgt := 19) rfl (fun c16 => ?_) (fun c16 => ?_)
  · have hw := hw.1 c16
    refine z_aload_n hX dX3_take_19 rfl (i := 0) rfl ?_
    refine z_iload_n hX dX3_take_20 rfl (i := 1) rfl ?_
    obtain ⟨a20, f21, r22, m23, hw⟩ := hw
    refine z_invV hX hd r22 (ci := 4) rfl rfl m23 dX3_take_21 (hC 222 _ zm222 _ _ _ _ hw) q2853 q2855 qs85 zh7 q2856 q136 zn222 rfl (Nat.le_of_ble_eq_true rfl) (st := []) rfl (zcs8 (Nat.le_of_ble_eq_true rfl)) rfl (zkI (fun v17 s18 hw => ?_)) (zout hX hR hTb)
    refine z_istore_n hX dX3_take_24 rfl (i := 2) (Nat.le_of_ble_eq_true rfl) rfl (ls2 := [some (va_rf (some a0)), some (.int x1), some (.int v17)]) rfl ?_
    refine z_iload_n hX dX3_take_25 rfl (i := 2) rfl ?_
    refine z_if_eq hX dX3_take_26 (tgt := 35) rfl (fun c24 => ?_) (fun c24 => ?_)
    · have hw := hw.1 c24
      refine z_aload_n hX dX3_take_35 rfl (i := 0) rfl ?_
      obtain ⟨a28, f29, r30, m31, hw⟩ := hw
      refine z_invV hX hd r30 (ci := 4) rfl rfl m31 dX3_take_36 (hC 237 _ zm237 _ _ _ _ hw) q2911 q2913 qs93 zh7 q2914 q136 zn237 rfl (Nat.le_of_ble_eq_true rfl) (st := []) rfl (zcs8 (Nat.le_of_ble_eq_true rfl)) rfl (zkV (fun s26 hw => ?_)) (zout hX hR hTb)
      refine z_aload_n hX dX3_take_39 rfl (i := 0) rfl ?_
      refine z_iload_n hX dX3_take_40 rfl (i := 1) rfl ?_
      obtain ⟨a35, f36, r37, m38, hw⟩ := hw
      refine z_invV hX hd r37 (ci := 4) rfl rfl m38 dX3_take_41 (hC 250 _ zm250 _ _ _ _ hw) q2963 q2965 qs98 zh7 q2966 q136 zn250 rfl (Nat.le_of_ble_eq_true rfl) (st := []) rfl (zcs8 (Nat.le_of_ble_eq_true rfl)) rfl (zkV (fun s33 hw => ?_)) (zout hX hR hTb)
      refine z_aload_n hX dX3_take_44 rfl (i := 0) rfl ?_
      obtain ⟨a42, f43, r44, m45, hw⟩ := hw
      refine z_invV hX hd r44 (ci := 4) rfl rfl m45 dX3_take_45 (hC 217 _ zm217 _ _ _ _ hw) q2833 q2835 qs81 zh7 q2836 q136 zn217 rfl (Nat.le_of_ble_eq_true rfl) (st := []) rfl (zcs8 (Nat.le_of_ble_eq_true rfl)) rfl (zkI (fun v39 s40 hw => ?_)) (zout hX hR hTb)
      exact z_ireturn hX hR dX3_take_48 rfl hw
    · have hw := hw.2 c24
      refine z_ldcw hX dX3_take_29 q2962 ?_
      refine z_iload_n hX dX3_take_32 rfl (i := 2) rfl ?_
      refine z_isub hX dX3_take_33 ?_
      exact z_ireturn hX hR dX3_take_34 rfl hw
  · have hw := hw.2 c16
    refine z_aload_n hX dX3_take_13 rfl (i := 0) rfl ?_
    refine z_iconst hX (v := (1 : Int32)) dX3_take_14 (by decide) ?_
    obtain ⟨a49, f50, r51, m52, hw⟩ := hw
    refine z_invV hX hd r51 (ci := 4) rfl rfl m52 dX3_take_15 (hC 163 _ zm163 _ _ _ _ hw) q2620 q2622 qs49 zh7 q2623 q136 zn163 rfl (Nat.le_of_ble_eq_true rfl) (st := []) rfl (zcs8 (Nat.le_of_ble_eq_true rfl)) rfl (zkI (fun v46 s47 hw => ?_)) (zout hX hR hTb)
    exact z_ireturn hX hR dX3_take_18 rfl hw
