set_option maxRecDepth 100000
abbrev cX3_init : ByteArray := prog_28_method_1_code
def yX3_init : MethodName := ⟨RX3, "<init>", "()V"⟩
def dkwX3_init_10 : List UInt8 := [180, 0, 9, 184, 0, 99, 177]
abbrev dktX3_init_10 : List UInt8 := dkwX3_init_10 ++ []
def dkwX3_init_9 : List UInt8 := [181, 0, 89, 42, 17, 0, 200, 188, 10, 181, 0, 93, 42, 17, 0, 200, 188, 11, 181, 0, 96, 42]
abbrev dktX3_init_9 : List UInt8 := dkwX3_init_9 ++ dktX3_init_10
def dkwX3_init_8 : List UInt8 := [89, 8, 18, 81, 83, 89, 16, 6, 18, 83, 83, 89, 16, 7, 18, 85, 83, 89, 16, 8, 18, 87, 83]
abbrev dktX3_init_8 : List UInt8 := dkwX3_init_8 ++ dktX3_init_9
def dkwX3_init_7 : List UInt8 := [3, 18, 71, 83, 89, 4, 18, 73, 83, 89, 5, 18, 75, 83, 89, 6, 18, 77, 83, 89, 7, 18, 79, 83]
abbrev dktX3_init_7 : List UInt8 := dkwX3_init_7 ++ dktX3_init_8
def dkwX3_init_6 : List UInt8 := [181, 0, 59, 42, 17, 1, 244, 188, 10, 181, 0, 62, 42, 2, 181, 0, 65, 42, 16, 9, 189, 0, 69, 89]
abbrev dktX3_init_6 : List UInt8 := dkwX3_init_6 ++ dktX3_init_7
def dkwX3_init_5 : List UInt8 := [181, 0, 50, 42, 8, 188, 11, 181, 0, 53, 42, 17, 16, 0, 188, 10, 181, 0, 56, 42, 16, 20, 188, 10]
abbrev dktX3_init_5 : List UInt8 := dkwX3_init_5 ++ dktX3_init_6
def dkwX3_init_4 : List UInt8 := [181, 0, 40, 42, 8, 188, 10, 181, 0, 43, 42, 16, 125, 188, 11, 181, 0, 46, 42, 8, 188, 11]
abbrev dktX3_init_4 : List UInt8 := dkwX3_init_4 ++ dktX3_init_5
def dkwX3_init_3 : List UInt8 := [181, 0, 31, 42, 17, 4, 0, 188, 10, 181, 0, 34, 42, 16, 25, 188, 10, 181, 0, 37, 42, 8, 188, 10]
abbrev dktX3_init_3 : List UInt8 := dkwX3_init_3 ++ dktX3_init_4
def dkwX3_init_2 : List UInt8 := [17, 4, 0, 188, 10, 181, 0, 25, 42, 17, 4, 0, 188, 10, 181, 0, 28, 42, 17, 4, 0, 188, 10]
abbrev dktX3_init_2 : List UInt8 := dkwX3_init_2 ++ dktX3_init_3
def dkwX3_init_1 : List UInt8 := [188, 10, 181, 0, 16, 42, 17, 2, 98, 188, 10, 181, 0, 19, 42, 17, 4, 0, 188, 10, 181, 0, 22, 42]
abbrev dktX3_init_1 : List UInt8 := dkwX3_init_1 ++ dktX3_init_2
def dkwX3_init_0 : List UInt8 := [42, 183, 0, 1, 42, 16, 61, 188, 10, 181, 0, 9, 42, 16, 61, 188, 10, 181, 0, 13, 42, 16, 61]
abbrev dktX3_init_0 : List UInt8 := dkwX3_init_0 ++ dktX3_init_1
theorem dksX3_init_0 : cX3_init.data.toList.drop 0 = dktX3_init_0 := by decide +kernel
theorem dksX3_init_1 : cX3_init.data.toList.drop 23 = dktX3_init_1 := dk_seg dksX3_init_0 23 rfl rfl
theorem dksX3_init_2 : cX3_init.data.toList.drop 47 = dktX3_init_2 := dk_seg dksX3_init_1 24 rfl rfl
theorem dksX3_init_3 : cX3_init.data.toList.drop 70 = dktX3_init_3 := dk_seg dksX3_init_2 23 rfl rfl
theorem dksX3_init_4 : cX3_init.data.toList.drop 94 = dktX3_init_4 := dk_seg dksX3_init_3 24 rfl rfl
theorem dksX3_init_5 : cX3_init.data.toList.drop 116 = dktX3_init_5 := dk_seg dksX3_init_4 22 rfl rfl
theorem dksX3_init_6 : cX3_init.data.toList.drop 140 = dktX3_init_6 := dk_seg dksX3_init_5 24 rfl rfl
theorem dksX3_init_7 : cX3_init.data.toList.drop 164 = dktX3_init_7 := dk_seg dksX3_init_6 24 rfl rfl
theorem dksX3_init_8 : cX3_init.data.toList.drop 188 = dktX3_init_8 := dk_seg dksX3_init_7 24 rfl rfl
theorem dksX3_init_9 : cX3_init.data.toList.drop 211 = dktX3_init_9 := dk_seg dksX3_init_8 23 rfl rfl
theorem dksX3_init_10 : cX3_init.data.toList.drop 233 = dktX3_init_10 := dk_seg dksX3_init_9 22 rfl rfl
theorem dX3_init_0 : decode cX3_init 0 = .ok (.aload_n 0, 1) := dk_42 (dk_at dksX3_init_0 0 rfl rfl)
theorem dX3_init_1 : decode cX3_init 1 = .ok (.invokespecial 1, 3) := dk_183 0 1 (dk_at dksX3_init_0 1 rfl rfl)
theorem dX3_init_4 : decode cX3_init 4 = .ok (.aload_n 0, 1) := dk_42 (dk_at dksX3_init_0 4 rfl rfl)
theorem dX3_init_5 : decode cX3_init 5 = .ok (.bipush 61, 2) := dk_16 61 (dk_at dksX3_init_0 5 rfl rfl)
theorem dX3_init_7 : decode cX3_init 7 = .ok (.newarray .int, 2) := dk_188_10 (dk_at dksX3_init_0 7 rfl rfl)
theorem dX3_init_9 : decode cX3_init 9 = .ok (.putfield 9, 3) := dk_181 0 9 (dk_at dksX3_init_0 9 rfl rfl)
theorem dX3_init_12 : decode cX3_init 12 = .ok (.aload_n 0, 1) := dk_42 (dk_at dksX3_init_0 12 rfl rfl)
theorem dX3_init_13 : decode cX3_init 13 = .ok (.bipush 61, 2) := dk_16 61 (dk_at dksX3_init_0 13 rfl rfl)
theorem dX3_init_15 : decode cX3_init 15 = .ok (.newarray .int, 2) := dk_188_10 (dk_at dksX3_init_0 15 rfl rfl)
theorem dX3_init_17 : decode cX3_init 17 = .ok (.putfield 13, 3) := dk_181 0 13 (dk_at dksX3_init_0 17 rfl rfl)
theorem dX3_init_20 : decode cX3_init 20 = .ok (.aload_n 0, 1) := dk_42 (dk_at dksX3_init_0 20 rfl rfl)
theorem dX3_init_21 : decode cX3_init 21 = .ok (.bipush 61, 2) := dk_16 61 (dk_at dksX3_init_0 21 rfl rfl)
theorem dX3_init_23 : decode cX3_init 23 = .ok (.newarray .int, 2) := dk_188_10 (dk_at dksX3_init_1 0 rfl rfl)
theorem dX3_init_25 : decode cX3_init 25 = .ok (.putfield 16, 3) := dk_181 0 16 (dk_at dksX3_init_1 2 rfl rfl)
theorem dX3_init_28 : decode cX3_init 28 = .ok (.aload_n 0, 1) := dk_42 (dk_at dksX3_init_1 5 rfl rfl)
theorem dX3_init_29 : decode cX3_init 29 = .ok (.sipush 610, 3) := dk_17 2 98 (dk_at dksX3_init_1 6 rfl rfl)
theorem dX3_init_32 : decode cX3_init 32 = .ok (.newarray .int, 2) := dk_188_10 (dk_at dksX3_init_1 9 rfl rfl)
theorem dX3_init_34 : decode cX3_init 34 = .ok (.putfield 19, 3) := dk_181 0 19 (dk_at dksX3_init_1 11 rfl rfl)
theorem dX3_init_37 : decode cX3_init 37 = .ok (.aload_n 0, 1) := dk_42 (dk_at dksX3_init_1 14 rfl rfl)
theorem dX3_init_38 : decode cX3_init 38 = .ok (.sipush 1024, 3) := dk_17 4 0 (dk_at dksX3_init_1 15 rfl rfl)
theorem dX3_init_41 : decode cX3_init 41 = .ok (.newarray .int, 2) := dk_188_10 (dk_at dksX3_init_1 18 rfl rfl)
theorem dX3_init_43 : decode cX3_init 43 = .ok (.putfield 22, 3) := dk_181 0 22 (dk_at dksX3_init_1 20 rfl rfl)
theorem dX3_init_46 : decode cX3_init 46 = .ok (.aload_n 0, 1) := dk_42 (dk_at dksX3_init_1 23 rfl rfl)
theorem dX3_init_47 : decode cX3_init 47 = .ok (.sipush 1024, 3) := dk_17 4 0 (dk_at dksX3_init_2 0 rfl rfl)
theorem dX3_init_50 : decode cX3_init 50 = .ok (.newarray .int, 2) := dk_188_10 (dk_at dksX3_init_2 3 rfl rfl)
theorem dX3_init_52 : decode cX3_init 52 = .ok (.putfield 25, 3) := dk_181 0 25 (dk_at dksX3_init_2 5 rfl rfl)
theorem dX3_init_55 : decode cX3_init 55 = .ok (.aload_n 0, 1) := dk_42 (dk_at dksX3_init_2 8 rfl rfl)
theorem dX3_init_56 : decode cX3_init 56 = .ok (.sipush 1024, 3) := dk_17 4 0 (dk_at dksX3_init_2 9 rfl rfl)
theorem dX3_init_59 : decode cX3_init 59 = .ok (.newarray .int, 2) := dk_188_10 (dk_at dksX3_init_2 12 rfl rfl)
theorem dX3_init_61 : decode cX3_init 61 = .ok (.putfield 28, 3) := dk_181 0 28 (dk_at dksX3_init_2 14 rfl rfl)
theorem dX3_init_64 : decode cX3_init 64 = .ok (.aload_n 0, 1) := dk_42 (dk_at dksX3_init_2 17 rfl rfl)
theorem dX3_init_65 : decode cX3_init 65 = .ok (.sipush 1024, 3) := dk_17 4 0 (dk_at dksX3_init_2 18 rfl rfl)
theorem dX3_init_68 : decode cX3_init 68 = .ok (.newarray .int, 2) := dk_188_10 (dk_at dksX3_init_2 21 rfl rfl)
theorem dX3_init_70 : decode cX3_init 70 = .ok (.putfield 31, 3) := dk_181 0 31 (dk_at dksX3_init_3 0 rfl rfl)
theorem dX3_init_73 : decode cX3_init 73 = .ok (.aload_n 0, 1) := dk_42 (dk_at dksX3_init_3 3 rfl rfl)
theorem dX3_init_74 : decode cX3_init 74 = .ok (.sipush 1024, 3) := dk_17 4 0 (dk_at dksX3_init_3 4 rfl rfl)
theorem dX3_init_77 : decode cX3_init 77 = .ok (.newarray .int, 2) := dk_188_10 (dk_at dksX3_init_3 7 rfl rfl)
theorem dX3_init_79 : decode cX3_init 79 = .ok (.putfield 34, 3) := dk_181 0 34 (dk_at dksX3_init_3 9 rfl rfl)
theorem dX3_init_82 : decode cX3_init 82 = .ok (.aload_n 0, 1) := dk_42 (dk_at dksX3_init_3 12 rfl rfl)
theorem dX3_init_83 : decode cX3_init 83 = .ok (.bipush 25, 2) := dk_16 25 (dk_at dksX3_init_3 13 rfl rfl)
theorem dX3_init_85 : decode cX3_init 85 = .ok (.newarray .int, 2) := dk_188_10 (dk_at dksX3_init_3 15 rfl rfl)
theorem dX3_init_87 : decode cX3_init 87 = .ok (.putfield 37, 3) := dk_181 0 37 (dk_at dksX3_init_3 17 rfl rfl)
theorem dX3_init_90 : decode cX3_init 90 = .ok (.aload_n 0, 1) := dk_42 (dk_at dksX3_init_3 20 rfl rfl)
theorem dX3_init_91 : decode cX3_init 91 = .ok (.iconst 5, 1) := dk_8 (dk_at dksX3_init_3 21 rfl rfl)
theorem dX3_init_92 : decode cX3_init 92 = .ok (.newarray .int, 2) := dk_188_10 (dk_at dksX3_init_3 22 rfl rfl)
theorem dX3_init_94 : decode cX3_init 94 = .ok (.putfield 40, 3) := dk_181 0 40 (dk_at dksX3_init_4 0 rfl rfl)
theorem dX3_init_97 : decode cX3_init 97 = .ok (.aload_n 0, 1) := dk_42 (dk_at dksX3_init_4 3 rfl rfl)
theorem dX3_init_98 : decode cX3_init 98 = .ok (.iconst 5, 1) := dk_8 (dk_at dksX3_init_4 4 rfl rfl)
theorem dX3_init_99 : decode cX3_init 99 = .ok (.newarray .int, 2) := dk_188_10 (dk_at dksX3_init_4 5 rfl rfl)
theorem dX3_init_101 : decode cX3_init 101 = .ok (.putfield 43, 3) := dk_181 0 43 (dk_at dksX3_init_4 7 rfl rfl)
theorem dX3_init_104 : decode cX3_init 104 = .ok (.aload_n 0, 1) := dk_42 (dk_at dksX3_init_4 10 rfl rfl)
theorem dX3_init_105 : decode cX3_init 105 = .ok (.bipush 125, 2) := dk_16 125 (dk_at dksX3_init_4 11 rfl rfl)
theorem dX3_init_107 : decode cX3_init 107 = .ok (.newarray .long, 2) := dk_188_11 (dk_at dksX3_init_4 13 rfl rfl)
theorem dX3_init_109 : decode cX3_init 109 = .ok (.putfield 46, 3) := dk_181 0 46 (dk_at dksX3_init_4 15 rfl rfl)
theorem dX3_init_112 : decode cX3_init 112 = .ok (.aload_n 0, 1) := dk_42 (dk_at dksX3_init_4 18 rfl rfl)
theorem dX3_init_113 : decode cX3_init 113 = .ok (.iconst 5, 1) := dk_8 (dk_at dksX3_init_4 19 rfl rfl)
theorem dX3_init_114 : decode cX3_init 114 = .ok (.newarray .long, 2) := dk_188_11 (dk_at dksX3_init_4 20 rfl rfl)
theorem dX3_init_116 : decode cX3_init 116 = .ok (.putfield 50, 3) := dk_181 0 50 (dk_at dksX3_init_5 0 rfl rfl)
theorem dX3_init_119 : decode cX3_init 119 = .ok (.aload_n 0, 1) := dk_42 (dk_at dksX3_init_5 3 rfl rfl)
theorem dX3_init_120 : decode cX3_init 120 = .ok (.iconst 5, 1) := dk_8 (dk_at dksX3_init_5 4 rfl rfl)
theorem dX3_init_121 : decode cX3_init 121 = .ok (.newarray .long, 2) := dk_188_11 (dk_at dksX3_init_5 5 rfl rfl)
theorem dX3_init_123 : decode cX3_init 123 = .ok (.putfield 53, 3) := dk_181 0 53 (dk_at dksX3_init_5 7 rfl rfl)
theorem dX3_init_126 : decode cX3_init 126 = .ok (.aload_n 0, 1) := dk_42 (dk_at dksX3_init_5 10 rfl rfl)
theorem dX3_init_127 : decode cX3_init 127 = .ok (.sipush 4096, 3) := dk_17 16 0 (dk_at dksX3_init_5 11 rfl rfl)
theorem dX3_init_130 : decode cX3_init 130 = .ok (.newarray .int, 2) := dk_188_10 (dk_at dksX3_init_5 14 rfl rfl)
theorem dX3_init_132 : decode cX3_init 132 = .ok (.putfield 56, 3) := dk_181 0 56 (dk_at dksX3_init_5 16 rfl rfl)
theorem dX3_init_135 : decode cX3_init 135 = .ok (.aload_n 0, 1) := dk_42 (dk_at dksX3_init_5 19 rfl rfl)
theorem dX3_init_136 : decode cX3_init 136 = .ok (.bipush 20, 2) := dk_16 20 (dk_at dksX3_init_5 20 rfl rfl)
theorem dX3_init_138 : decode cX3_init 138 = .ok (.newarray .int, 2) := dk_188_10 (dk_at dksX3_init_5 22 rfl rfl)
theorem dX3_init_140 : decode cX3_init 140 = .ok (.putfield 59, 3) := dk_181 0 59 (dk_at dksX3_init_6 0 rfl rfl)
theorem dX3_init_143 : decode cX3_init 143 = .ok (.aload_n 0, 1) := dk_42 (dk_at dksX3_init_6 3 rfl rfl)
theorem dX3_init_144 : decode cX3_init 144 = .ok (.sipush 500, 3) := dk_17 1 244 (dk_at dksX3_init_6 4 rfl rfl)
theorem dX3_init_147 : decode cX3_init 147 = .ok (.newarray .int, 2) := dk_188_10 (dk_at dksX3_init_6 7 rfl rfl)
theorem dX3_init_149 : decode cX3_init 149 = .ok (.putfield 62, 3) := dk_181 0 62 (dk_at dksX3_init_6 9 rfl rfl)
theorem dX3_init_152 : decode cX3_init 152 = .ok (.aload_n 0, 1) := dk_42 (dk_at dksX3_init_6 12 rfl rfl)
theorem dX3_init_153 : decode cX3_init 153 = .ok (.iconst (-1), 1) := dk_2 (dk_at dksX3_init_6 13 rfl rfl)
theorem dX3_init_154 : decode cX3_init 154 = .ok (.putfield 65, 3) := dk_181 0 65 (dk_at dksX3_init_6 14 rfl rfl)
theorem dX3_init_157 : decode cX3_init 157 = .ok (.aload_n 0, 1) := dk_42 (dk_at dksX3_init_6 17 rfl rfl)
theorem dX3_init_158 : decode cX3_init 158 = .ok (.bipush 9, 2) := dk_16 9 (dk_at dksX3_init_6 18 rfl rfl)
theorem dX3_init_160 : decode cX3_init 160 = .ok (.anewarray 69, 3) := dk_189 0 69 (dk_at dksX3_init_6 20 rfl rfl)
theorem dX3_init_163 : decode cX3_init 163 = .ok (.dup, 1) := dk_89 (dk_at dksX3_init_6 23 rfl rfl)
theorem dX3_init_164 : decode cX3_init 164 = .ok (.iconst 0, 1) := dk_3 (dk_at dksX3_init_7 0 rfl rfl)
theorem dX3_init_165 : decode cX3_init 165 = .ok (.ldc 71, 2) := dk_18 71 (dk_at dksX3_init_7 1 rfl rfl)
theorem dX3_init_167 : decode cX3_init 167 = .ok (.aastore, 1) := dk_83 (dk_at dksX3_init_7 3 rfl rfl)
theorem dX3_init_168 : decode cX3_init 168 = .ok (.dup, 1) := dk_89 (dk_at dksX3_init_7 4 rfl rfl)
theorem dX3_init_169 : decode cX3_init 169 = .ok (.iconst 1, 1) := dk_4 (dk_at dksX3_init_7 5 rfl rfl)
theorem dX3_init_170 : decode cX3_init 170 = .ok (.ldc 73, 2) := dk_18 73 (dk_at dksX3_init_7 6 rfl rfl)
theorem dX3_init_172 : decode cX3_init 172 = .ok (.aastore, 1) := dk_83 (dk_at dksX3_init_7 8 rfl rfl)
theorem dX3_init_173 : decode cX3_init 173 = .ok (.dup, 1) := dk_89 (dk_at dksX3_init_7 9 rfl rfl)
theorem dX3_init_174 : decode cX3_init 174 = .ok (.iconst 2, 1) := dk_5 (dk_at dksX3_init_7 10 rfl rfl)
theorem dX3_init_175 : decode cX3_init 175 = .ok (.ldc 75, 2) := dk_18 75 (dk_at dksX3_init_7 11 rfl rfl)
theorem dX3_init_177 : decode cX3_init 177 = .ok (.aastore, 1) := dk_83 (dk_at dksX3_init_7 13 rfl rfl)
theorem dX3_init_178 : decode cX3_init 178 = .ok (.dup, 1) := dk_89 (dk_at dksX3_init_7 14 rfl rfl)
theorem dX3_init_179 : decode cX3_init 179 = .ok (.iconst 3, 1) := dk_6 (dk_at dksX3_init_7 15 rfl rfl)
theorem dX3_init_180 : decode cX3_init 180 = .ok (.ldc 77, 2) := dk_18 77 (dk_at dksX3_init_7 16 rfl rfl)
theorem dX3_init_182 : decode cX3_init 182 = .ok (.aastore, 1) := dk_83 (dk_at dksX3_init_7 18 rfl rfl)
theorem dX3_init_183 : decode cX3_init 183 = .ok (.dup, 1) := dk_89 (dk_at dksX3_init_7 19 rfl rfl)
theorem dX3_init_184 : decode cX3_init 184 = .ok (.iconst 4, 1) := dk_7 (dk_at dksX3_init_7 20 rfl rfl)
theorem dX3_init_185 : decode cX3_init 185 = .ok (.ldc 79, 2) := dk_18 79 (dk_at dksX3_init_7 21 rfl rfl)
theorem dX3_init_187 : decode cX3_init 187 = .ok (.aastore, 1) := dk_83 (dk_at dksX3_init_7 23 rfl rfl)
theorem dX3_init_188 : decode cX3_init 188 = .ok (.dup, 1) := dk_89 (dk_at dksX3_init_8 0 rfl rfl)
theorem dX3_init_189 : decode cX3_init 189 = .ok (.iconst 5, 1) := dk_8 (dk_at dksX3_init_8 1 rfl rfl)
theorem dX3_init_190 : decode cX3_init 190 = .ok (.ldc 81, 2) := dk_18 81 (dk_at dksX3_init_8 2 rfl rfl)
theorem dX3_init_192 : decode cX3_init 192 = .ok (.aastore, 1) := dk_83 (dk_at dksX3_init_8 4 rfl rfl)
theorem dX3_init_193 : decode cX3_init 193 = .ok (.dup, 1) := dk_89 (dk_at dksX3_init_8 5 rfl rfl)
theorem dX3_init_194 : decode cX3_init 194 = .ok (.bipush 6, 2) := dk_16 6 (dk_at dksX3_init_8 6 rfl rfl)
theorem dX3_init_196 : decode cX3_init 196 = .ok (.ldc 83, 2) := dk_18 83 (dk_at dksX3_init_8 8 rfl rfl)
theorem dX3_init_198 : decode cX3_init 198 = .ok (.aastore, 1) := dk_83 (dk_at dksX3_init_8 10 rfl rfl)
theorem dX3_init_199 : decode cX3_init 199 = .ok (.dup, 1) := dk_89 (dk_at dksX3_init_8 11 rfl rfl)
theorem dX3_init_200 : decode cX3_init 200 = .ok (.bipush 7, 2) := dk_16 7 (dk_at dksX3_init_8 12 rfl rfl)
theorem dX3_init_202 : decode cX3_init 202 = .ok (.ldc 85, 2) := dk_18 85 (dk_at dksX3_init_8 14 rfl rfl)
theorem dX3_init_204 : decode cX3_init 204 = .ok (.aastore, 1) := dk_83 (dk_at dksX3_init_8 16 rfl rfl)
theorem dX3_init_205 : decode cX3_init 205 = .ok (.dup, 1) := dk_89 (dk_at dksX3_init_8 17 rfl rfl)
theorem dX3_init_206 : decode cX3_init 206 = .ok (.bipush 8, 2) := dk_16 8 (dk_at dksX3_init_8 18 rfl rfl)
theorem dX3_init_208 : decode cX3_init 208 = .ok (.ldc 87, 2) := dk_18 87 (dk_at dksX3_init_8 20 rfl rfl)
theorem dX3_init_210 : decode cX3_init 210 = .ok (.aastore, 1) := dk_83 (dk_at dksX3_init_8 22 rfl rfl)
theorem dX3_init_211 : decode cX3_init 211 = .ok (.putfield 89, 3) := dk_181 0 89 (dk_at dksX3_init_9 0 rfl rfl)
theorem dX3_init_214 : decode cX3_init 214 = .ok (.aload_n 0, 1) := dk_42 (dk_at dksX3_init_9 3 rfl rfl)
theorem dX3_init_215 : decode cX3_init 215 = .ok (.sipush 200, 3) := dk_17 0 200 (dk_at dksX3_init_9 4 rfl rfl)
theorem dX3_init_218 : decode cX3_init 218 = .ok (.newarray .int, 2) := dk_188_10 (dk_at dksX3_init_9 7 rfl rfl)
theorem dX3_init_220 : decode cX3_init 220 = .ok (.putfield 93, 3) := dk_181 0 93 (dk_at dksX3_init_9 9 rfl rfl)
theorem dX3_init_223 : decode cX3_init 223 = .ok (.aload_n 0, 1) := dk_42 (dk_at dksX3_init_9 12 rfl rfl)
theorem dX3_init_224 : decode cX3_init 224 = .ok (.sipush 200, 3) := dk_17 0 200 (dk_at dksX3_init_9 13 rfl rfl)
theorem dX3_init_227 : decode cX3_init 227 = .ok (.newarray .long, 2) := dk_188_11 (dk_at dksX3_init_9 16 rfl rfl)
theorem dX3_init_229 : decode cX3_init 229 = .ok (.putfield 96, 3) := dk_181 0 96 (dk_at dksX3_init_9 18 rfl rfl)
theorem dX3_init_232 : decode cX3_init 232 = .ok (.aload_n 0, 1) := dk_42 (dk_at dksX3_init_9 21 rfl rfl)
theorem dX3_init_233 : decode cX3_init 233 = .ok (.getfield 9, 3) := dk_180 0 9 (dk_at dksX3_init_10 0 rfl rfl)
theorem dX3_init_236 : decode cX3_init 236 = .ok (.invokestatic 99, 3) := dk_184 0 99 (dk_at dksX3_init_10 3 rfl rfl)
theorem dX3_init_239 : decode cX3_init 239 = .ok (.return_, 1) := dk_177 (dk_at dksX3_init_10 6 rfl rfl)
/-- PackingDuelModel.<init>()V -/
def zb154 (G : zPg) (C : zO) (args : List Value) (Q : zQ) (Y : zY) (σ : zS) : Prop := ∃ (a0 : Nat), args = [.ref a0] ∧ ((∃ a1, (some a0) = some a1 ∧ znewA σ 0 (61 : Int32) (.inl (fun _ => 0)) (fun s3 => zput s3 G.1 (some a0) 4 0 (va_rf (some σ.2.1)) (fun s6 => znewA s6 0 (61 : Int32) (.inl (fun _ => 0)) (fun s14 => zput s14 G.1 (some a0) 4 1 (va_rf (some s6.2.1)) (fun s17 => znewA s17 0 (61 : Int32) (.inl (fun _ => 0)) (fun s25 => zput s25 G.1 (some a0) 4 2 (va_rf (some s17.2.1)) (fun s28 => znewA s28 0 (610 : Int32) (.inl (fun _ => 0)) (fun s36 => zput s36 G.1 (some a0) 4 3 (va_rf (some s28.2.1)) (fun s39 => znewA s39 0 (1024 : Int32) (.inl (fun _ => 0)) (fun s47 => zput s47 G.1 (some a0) 4 7 (va_rf (some s39.2.1)) (fun s50 => znewA s50 0 (1024 : Int32) (.inl (fun _ => 0)) (fun s58 => zput s58 G.1 (some a0) 4 8 (va_rf (some s50.2.1)) (fun s61 => znewA s61 0 (1024 : Int32) (.inl (fun _ => 0)) (fun s69 => zput s69 G.1 (some a0) 4 9 (va_rf (some s61.2.1)) (fun s72 => znewA s72 0 (1024 : Int32) (.inl (fun _ => 0)) (fun s80 => zput s80 G.1 (some a0) 4 10 (va_rf (some s72.2.1)) (fun s83 => znewA s83 0 (1024 : Int32) (.inl (fun _ => 0)) (fun s91 => zput s91 G.1 (some a0) 4 11 (va_rf (some s83.2.1)) (fun s94 => znewA s94 0 (25 : Int32) (.inl (fun _ => 0)) (fun s102 => zput s102 G.1 (some a0) 4 12 (va_rf (some s94.2.1)) (fun s105 => znewA s105 0 (5 : Int32) (.inl (fun _ => 0)) (fun s113 => zput s113 G.1 (some a0) 4 13 (va_rf (some s105.2.1)) (fun s116 => znewA s116 0 (5 : Int32) (.inl (fun _ => 0)) (fun s124 => zput s124 G.1 (some a0) 4 14 (va_rf (some s116.2.1)) (fun s127 => znewA s127 1 (125 : Int32) (.inr (.inl (fun _ => 0))) (fun s135 => zput s135 G.1 (some a0) 4 16 (va_rf (some s127.2.1)) (fun s138 => znewA s138 1 (5 : Int32) (.inr (.inl (fun _ => 0))) (fun s146 => zput s146 G.1 (some a0) 4 17 (va_rf (some s138.2.1)) (fun s149 => znewA s149 1 (5 : Int32) (.inr (.inl (fun _ => 0))) (fun s157 => zput s157 G.1 (some a0) 4 18 (va_rf (some s149.2.1)) (fun s160 => znewA s160 0 (4096 : Int32) (.inl (fun _ => 0)) (fun s168 => zput s168 G.1 (some a0) 4 24 (va_rf (some s160.2.1)) (fun s171 => znewA s171 0 (20 : Int32) (.inl (fun _ => 0)) (fun s179 => zput s179 G.1 (some a0) 4 25 (va_rf (some s171.2.1)) (fun s182 => znewA s182 0 (500 : Int32) (.inl (fun _ => 0)) (fun s190 => zput s190 G.1 (some a0) 4 27 (va_rf (some s182.2.1)) (fun s193 => zput s193 G.1 (some a0) 4 35 (.int (-1 : Int32)) (fun s201 => znewA s201 8 (9 : Int32) (.inr (.inr (.inr (.inr (fun _ => none))))) (fun s209 => zsR s209 G.1 8 [9] (some s201.2.1) (0 : Int32) (some (G.2 10)) (fun s220 => zsR s220 G.1 8 [9] (some s201.2.1) (1 : Int32) (some (G.2 11)) (fun s230 => zsR s230 G.1 8 [9] (some s201.2.1) (2 : Int32) (some (G.2 12)) (fun s240 => zsR s240 G.1 8 [9] (some s201.2.1) (3 : Int32) (some (G.2 13)) (fun s250 => zsR s250 G.1 8 [9] (some s201.2.1) (4 : Int32) (some (G.2 14)) (fun s260 => zsR s260 G.1 8 [9] (some s201.2.1) (5 : Int32) (some (G.2 15)) (fun s270 => zsR s270 G.1 8 [9] (some s201.2.1) (6 : Int32) (some (G.2 16)) (fun s280 => zsR s280 G.1 8 [9] (some s201.2.1) (7 : Int32) (some (G.2 17)) (fun s290 => zsR s290 G.1 8 [9] (some s201.2.1) (8 : Int32) (some (G.2 18)) (fun s300 => zput s300 G.1 (some a0) 4 37 (va_rf (some s201.2.1)) (fun s302 => znewA s302 0 (200 : Int32) (.inl (fun _ => 0)) (fun s310 => zput s310 G.1 (some a0) 4 38 (va_rf (some s302.2.1)) (fun s313 => znewA s313 1 (200 : Int32) (.inr (.inl (fun _ => 0))) (fun s321 => zput s321 G.1 (some a0) 4 39 (va_rf (some s313.2.1)) (fun s324 => zgR s324 (some a0) 4 0 (fun v332 => zcl C 155 [va_rf v332] Y s324 (zqV (fun s339 => Q none s339)))))))))))))))))))))))))))))))))))))))))))))))))))))))))
set_option maxHeartbeats 4000000 in
theorem wk154 {l : Launch} {g : zG} {d : Nat} {C : zO} (hG : zGk g) (hC : zSound l g d C) {args : List Value} {Q : zQ} {Y : zY} {σ : zS} (hw : zb154 (zpg g) C args Q Y σ) : zMet l g (d + 1) (⟨"PackingDuelModel", "<init>", "()V"⟩, Cond.code ⟨"PackingDuelModel", "<init>", "()V"⟩ prog_28_method_1_code 1 (Option.none : Option FieldType)) args σ Q Y := by
  obtain ⟨a0, rfl, hw⟩ := hw
  refine zof hG (by decide +kernel) [false] ⟨rfl, trivial⟩ (Nat.le_of_ble_eq_true rfl) (ls := [some (va_rf (some a0))]) rfl ?_
  intro X hX hR hTb hd1 hd2 hl hg hnm
  subst hl
  subst hg
  have hd : zDep X d := ⟨hd1, hd2⟩
  refine z_aload_n hX dX3_init_0 rfl (i := 0) rfl ?_
  obtain ⟨a1, r2, hw⟩ := hw
  refine z_oinit hX hd dX3_init_1 q2454 q191 q192 r2 rfl (zcs8 (Nat.le_of_ble_eq_true rfl)) ?_
  refine z_aload_n hX dX3_init_4 rfl (i := 0) rfl ?_
  refine z_bipush hX (v := (61 : Int32)) dX3_init_5 (by decide) ?_
  refine z_newI hX dX3_init_7 q394 hw.1 hw.2.1 hw.2.2.1 hw.2.2.2.1 (fun z4 => z_nm (fun s3 e5 => ?_))
  have hw := hw.2.2.2.2 z4 s3 e5
  obtain ⟨a8, f9, r10, g11, m12, l13, hw⟩ := hw
  refine z_putF hX zc4 (k := 0) dX3_init_9 (Nat.le_of_ble_eq_true rfl) q2469 rfl hnm rfl (zn_a _ _) (zf_a _ _) r10 g11 m12 l13 (z_nm (fun s6 e7 => ?_))
  have hw := hw s6 e7
  refine z_aload_n hX dX3_init_12 rfl (i := 0) rfl ?_
  refine z_bipush hX (v := (61 : Int32)) dX3_init_13 (by decide) ?_
  refine z_newI hX dX3_init_15 q394 hw.1 hw.2.1 hw.2.2.1 hw.2.2.2.1 (fun z15 => z_nm (fun s14 e16 => ?_))
  have hw := hw.2.2.2.2 z15 s14 e16
  obtain ⟨a19, f20, r21, g22, m23, l24, hw⟩ := hw
  refine z_putF hX zc4 (k := 1) dX3_init_17 (Nat.le_of_ble_eq_true rfl) q2470 rfl hnm rfl (zn_a _ _) (zf_a _ _) r21 g22 m23 l24 (z_nm (fun s17 e18 => ?_))
  have hw := hw s17 e18
  refine z_aload_n hX dX3_init_20 rfl (i := 0) rfl ?_
  refine z_bipush hX (v := (61 : Int32)) dX3_init_21 (by decide) ?_
  refine z_newI hX dX3_init_23 q394 hw.1 hw.2.1 hw.2.2.1 hw.2.2.2.1 (fun z26 => z_nm (fun s25 e27 => ?_))
  have hw := hw.2.2.2.2 z26 s25 e27
  obtain ⟨a30, f31, r32, g33, m34, l35, hw⟩ := hw
  refine z_putF hX zc4 (k := 2) dX3_init_25 (Nat.le_of_ble_eq_true rfl) q2471 rfl hnm rfl (zn_a _ _) (zf_a _ _) r32 g33 m34 l35 (z_nm (fun s28 e29 => ?_))
  have hw := hw s28 e29
  refine z_aload_n hX dX3_init_28 rfl (i := 0) rfl ?_
  refine z_sipush hX (v := (610 : Int32)) dX3_init_29 (by decide) ?_
  refine z_newI hX dX3_init_32 q394 hw.1 hw.2.1 hw.2.2.1 hw.2.2.2.1 (fun z37 => z_nm (fun s36 e38 => ?_))
  have hw := hw.2.2.2.2 z37 s36 e38
  obtain ⟨a41, f42, r43, g44, m45, l46, hw⟩ := hw
  refine z_putF hX zc4 (k := 3) dX3_init_34 (Nat.le_of_ble_eq_true rfl) q2472 rfl hnm rfl (zn_a _ _) (zf_a _ _) r43 g44 m45 l46 (z_nm (fun s39 e40 => ?_))
  have hw := hw s39 e40
  refine z_aload_n hX dX3_init_37 rfl (i := 0) rfl ?_
  refine z_sipush hX (v := (1024 : Int32)) dX3_init_38 (by decide) ?_
  refine z_newI hX dX3_init_41 q394 hw.1 hw.2.1 hw.2.2.1 hw.2.2.2.1 (fun z48 => z_nm (fun s47 e49 => ?_))
  have hw := hw.2.2.2.2 z48 s47 e49
  obtain ⟨a52, f53, r54, g55, m56, l57, hw⟩ := hw
  refine z_putF hX zc4 (k := 7) dX3_init_43 (Nat.le_of_ble_eq_true rfl) q2476 rfl hnm rfl (zn_a _ _) (zf_a _ _) r54 g55 m56 l57 (z_nm (fun s50 e51 => ?_))
  have hw := hw s50 e51
  refine z_aload_n hX dX3_init_46 rfl (i := 0) rfl ?_
  refine z_sipush hX (v := (1024 : Int32)) dX3_init_47 (by decide) ?_
  refine z_newI hX dX3_init_50 q394 hw.1 hw.2.1 hw.2.2.1 hw.2.2.2.1 (fun z59 => z_nm (fun s58 e60 => ?_))
  have hw := hw.2.2.2.2 z59 s58 e60
  obtain ⟨a63, f64, r65, g66, m67, l68, hw⟩ := hw
  refine z_putF hX zc4 (k := 8) dX3_init_52 (Nat.le_of_ble_eq_true rfl) q2477 rfl hnm rfl (zn_a _ _) (zf_a _ _) r65 g66 m67 l68 (z_nm (fun s61 e62 => ?_))
  have hw := hw s61 e62
  refine z_aload_n hX dX3_init_55 rfl (i := 0) rfl ?_
  refine z_sipush hX (v := (1024 : Int32)) dX3_init_56 (by decide) ?_
  refine z_newI hX dX3_init_59 q394 hw.1 hw.2.1 hw.2.2.1 hw.2.2.2.1 (fun z70 => z_nm (fun s69 e71 => ?_))
  have hw := hw.2.2.2.2 z70 s69 e71
  obtain ⟨a74, f75, r76, g77, m78, l79, hw⟩ := hw
  refine z_putF hX zc4 (k := 9) dX3_init_61 (Nat.le_of_ble_eq_true rfl) q2478 rfl hnm rfl (zn_a _ _) (zf_a _ _) r76 g77 m78 l79 (z_nm (fun s72 e73 => ?_))
  have hw := hw s72 e73
  refine z_aload_n hX dX3_init_64 rfl (i := 0) rfl ?_
  refine z_sipush hX (v := (1024 : Int32)) dX3_init_65 (by decide) ?_
  refine z_newI hX dX3_init_68 q394 hw.1 hw.2.1 hw.2.2.1 hw.2.2.2.1 (fun z81 => z_nm (fun s80 e82 => ?_))
  have hw := hw.2.2.2.2 z81 s80 e82
  obtain ⟨a85, f86, r87, g88, m89, l90, hw⟩ := hw
  refine z_putF hX zc4 (k := 10) dX3_init_70 (Nat.le_of_ble_eq_true rfl) q2479 rfl hnm rfl (zn_a _ _) (zf_a _ _) r87 g88 m89 l90 (z_nm (fun s83 e84 => ?_))
  have hw := hw s83 e84
  refine z_aload_n hX dX3_init_73 rfl (i := 0) rfl ?_
  refine z_sipush hX (v := (1024 : Int32)) dX3_init_74 (by decide) ?_
  refine z_newI hX dX3_init_77 q394 hw.1 hw.2.1 hw.2.2.1 hw.2.2.2.1 (fun z92 => z_nm (fun s91 e93 => ?_))
  have hw := hw.2.2.2.2 z92 s91 e93
  obtain ⟨a96, f97, r98, g99, m100, l101, hw⟩ := hw
  refine z_putF hX zc4 (k := 11) dX3_init_79 (Nat.le_of_ble_eq_true rfl) q2480 rfl hnm rfl (zn_a _ _) (zf_a _ _) r98 g99 m100 l101 (z_nm (fun s94 e95 => ?_))
  have hw := hw s94 e95
  refine z_aload_n hX dX3_init_82 rfl (i := 0) rfl ?_
  refine z_bipush hX (v := (25 : Int32)) dX3_init_83 (by decide) ?_
  refine z_newI hX dX3_init_85 q394 hw.1 hw.2.1 hw.2.2.1 hw.2.2.2.1 (fun z103 => z_nm (fun s102 e104 => ?_))
  have hw := hw.2.2.2.2 z103 s102 e104
  obtain ⟨a107, f108, r109, g110, m111, l112, hw⟩ := hw
  refine z_putF hX zc4 (k := 12) dX3_init_87 (Nat.le_of_ble_eq_true rfl) q2481 rfl hnm rfl (zn_a _ _) (zf_a _ _) r109 g110 m111 l112 (z_nm (fun s105 e106 => ?_))
  have hw := hw s105 e106
  refine z_aload_n hX dX3_init_90 rfl (i := 0) rfl ?_
  refine z_iconst hX (v := (5 : Int32)) dX3_init_91 (by decide) ?_
  refine z_newI hX dX3_init_92 q394 hw.1 hw.2.1 hw.2.2.1 hw.2.2.2.1 (fun z114 => z_nm (fun s113 e115 => ?_))
  have hw := hw.2.2.2.2 z114 s113 e115
  obtain ⟨a118, f119, r120, g121, m122, l123, hw⟩ := hw
  refine z_putF hX zc4 (k := 13) dX3_init_94 (Nat.le_of_ble_eq_true rfl) q2482 rfl hnm rfl (zn_a _ _) (zf_a _ _) r120 g121 m122 l123 (z_nm (fun s116 e117 => ?_))
  have hw := hw s116 e117
  refine z_aload_n hX dX3_init_97 rfl (i := 0) rfl ?_
  refine z_iconst hX (v := (5 : Int32)) dX3_init_98 (by decide) ?_
  refine z_newI hX dX3_init_99 q394 hw.1 hw.2.1 hw.2.2.1 hw.2.2.2.1 (fun z125 => z_nm (fun s124 e126 => ?_))
  have hw := hw.2.2.2.2 z125 s124 e126
  obtain ⟨a129, f130, r131, g132, m133, l134, hw⟩ := hw
  refine z_putF hX zc4 (k := 14) dX3_init_101 (Nat.le_of_ble_eq_true rfl) q2483 rfl hnm rfl (zn_a _ _) (zf_a _ _) r131 g132 m133 l134 (z_nm (fun s127 e128 => ?_))
  have hw := hw s127 e128
  refine z_aload_n hX dX3_init_104 rfl (i := 0) rfl ?_
  refine z_bipush hX (v := (125 : Int32)) dX3_init_105 (by decide) ?_
  refine z_newL hX dX3_init_107 q590 hw.1 hw.2.1 hw.2.2.1 hw.2.2.2.1 (fun z136 => z_nm (fun s135 e137 => ?_))
  have hw := hw.2.2.2.2 z136 s135 e137
  obtain ⟨a140, f141, r142, g143, m144, l145, hw⟩ := hw
  refine z_putF hX zc4 (k := 16) dX3_init_109 (Nat.le_of_ble_eq_true rfl) q2485 rfl hnm rfl (zn_a _ _) (zf_a _ _) r142 g143 m144 l145 (z_nm (fun s138 e139 => ?_))
  have hw := hw s138 e139
  refine z_aload_n hX dX3_init_112 rfl (i := 0) rfl ?_
  refine z_iconst hX (v := (5 : Int32)) dX3_init_113 (by decide) ?_
  refine z_newL hX dX3_init_114 q590 hw.1 hw.2.1 hw.2.2.1 hw.2.2.2.1 (fun z147 => z_nm (fun s146 e148 => ?_))
  have hw := hw.2.2.2.2 z147 s146 e148
  obtain ⟨a151, f152, r153, g154, m155, l156, hw⟩ := hw
  refine z_putF hX zc4 (k := 17) dX3_init_116 (Nat.le_of_ble_eq_true rfl) q2486 rfl hnm rfl (zn_a _ _) (zf_a _ _) r153 g154 m155 l156 (z_nm (fun s149 e150 => ?_))
  have hw := hw s149 e150
  refine z_aload_n hX dX3_init_119 rfl (i := 0) rfl ?_
  refine z_iconst hX (v := (5 : Int32)) dX3_init_120 (by decide) ?_
  refine z_newL hX dX3_init_121 q590 hw.1 hw.2.1 hw.2.2.1 hw.2.2.2.1 (fun z158 => z_nm (fun s157 e159 => ?_))
  have hw := hw.2.2.2.2 z158 s157 e159
  obtain ⟨a162, f163, r164, g165, m166, l167, hw⟩ := hw
  refine z_putF hX zc4 (k := 18) dX3_init_123 (Nat.le_of_ble_eq_true rfl) q2487 rfl hnm rfl (zn_a _ _) (zf_a _ _) r164 g165 m166 l167 (z_nm (fun s160 e161 => ?_))
  have hw := hw s160 e161
  refine z_aload_n hX dX3_init_126 rfl (i := 0) rfl ?_
  refine z_sipush hX (v := (4096 : Int32)) dX3_init_127 (by decide) ?_
  refine z_newI hX dX3_init_130 q394 hw.1 hw.2.1 hw.2.2.1 hw.2.2.2.1 (fun z169 => z_nm (fun s168 e170 => ?_))
  have hw := hw.2.2.2.2 z169 s168 e170
  obtain ⟨a173, f174, r175, g176, m177, l178, hw⟩ := hw
  refine z_putF hX zc4 (k := 24) dX3_init_132 (Nat.le_of_ble_eq_true rfl) q2493 rfl hnm rfl (zn_a _ _) (zf_a _ _) r175 g176 m177 l178 (z_nm (fun s171 e172 => ?_))
  have hw := hw s171 e172
  refine z_aload_n hX dX3_init_135 rfl (i := 0) rfl ?_
  refine z_bipush hX (v := (20 : Int32)) dX3_init_136 (by decide) ?_
  refine z_newI hX dX3_init_138 q394 hw.1 hw.2.1 hw.2.2.1 hw.2.2.2.1 (fun z180 => z_nm (fun s179 e181 => ?_))
  have hw := hw.2.2.2.2 z180 s179 e181
  obtain ⟨a184, f185, r186, g187, m188, l189, hw⟩ := hw
  refine z_putF hX zc4 (k := 25) dX3_init_140 (Nat.le_of_ble_eq_true rfl) q2494 rfl hnm rfl (zn_a _ _) (zf_a _ _) r186 g187 m188 l189 (z_nm (fun s182 e183 => ?_))
  have hw := hw s182 e183
  refine z_aload_n hX dX3_init_143 rfl (i := 0) rfl ?_
  refine z_sipush hX (v := (500 : Int32)) dX3_init_144 (by decide) ?_
  refine z_newI hX dX3_init_147 q394 hw.1 hw.2.1 hw.2.2.1 hw.2.2.2.1 (fun z191 => z_nm (fun s190 e192 => ?_))
  have hw := hw.2.2.2.2 z191 s190 e192
  obtain ⟨a195, f196, r197, g198, m199, l200, hw⟩ := hw
  refine z_putF hX zc4 (k := 27) dX3_init_149 (Nat.le_of_ble_eq_true rfl) q2496 rfl hnm rfl (zn_a _ _) (zf_a _ _) r197 g198 m199 l200 (z_nm (fun s193 e194 => ?_))
  have hw := hw s193 e194
  refine z_aload_n hX dX3_init_152 rfl (i := 0) rfl ?_
  refine z_iconst hX (v := (-1 : Int32)) dX3_init_153 (by decide) ?_
  obtain ⟨a203, f204, r205, g206, m207, l208, hw⟩ := hw
  refine z_put hX zc4 (k := 35) dX3_init_154 (Nat.le_of_ble_eq_true rfl) (zlk hX q2504) rfl rfl rfl r205 g206 m207 l208 (z_nm (fun s201 e202 => ?_))
  have hw := hw s201 e202
  refine z_aload_n hX dX3_init_157 rfl (i := 0) rfl ?_
  refine z_bipush hX (v := (9 : Int32)) dX3_init_158 (by decide) ?_
  refine z_anew hX 8 dX3_init_160 q2455 q2456 rfl rfl hw.1 hw.2.1 hw.2.2.1 hw.2.2.2.1 (fun z210 => z_nm (fun s209 e211 => ?_))
  have hw := hw.2.2.2.2 z210 s209 e211
  refine z_dup hX dX3_init_163 (zc_rf _) ?_
  refine z_iconst hX (v := (0 : Int32)) dX3_init_164 (by decide) ?_
  refine z_ldcS hX (tx := "set") (j := 10) dX3_init_165 (List.mem_of_getElem? (i := 10) rfl) ?_
  obtain ⟨a212, n213, f214, r215, g216, m217, i218, c219, hw⟩ := hw
  refine z_aastM hX 8 dX3_init_167 rfl rfl (zfa1 ⟨_, rfl, Or.inl rfl⟩ (zfa0)) r215 g216 m217 i218 c219 (z_nm (fun s220 e221 => ?_))
  have hw := hw s220 e221
  refine z_dup hX dX3_init_168 (zc_rf _) ?_
  refine z_iconst hX (v := (1 : Int32)) dX3_init_169 (by decide) ?_
  refine z_ldcS hX (tx := "items") (j := 11) dX3_init_170 (List.mem_of_getElem? (i := 11) rfl) ?_
  obtain ⟨a222, n223, f224, r225, g226, m227, i228, c229, hw⟩ := hw
  refine z_aastM hX 8 dX3_init_172 rfl rfl (zfa1 ⟨_, rfl, Or.inl rfl⟩ (zfa0)) r225 g226 m227 i228 c229 (z_nm (fun s230 e231 => ?_))
  have hw := hw s230 e231
  refine z_dup hX dX3_init_173 (zc_rf _) ?_
  refine z_iconst hX (v := (2 : Int32)) dX3_init_174 (by decide) ?_
  refine z_ldcS hX (tx := "weight") (j := 12) dX3_init_175 (List.mem_of_getElem? (i := 12) rfl) ?_
  obtain ⟨a232, n233, f234, r235, g236, m237, i238, c239, hw⟩ := hw
  refine z_aastM hX 8 dX3_init_177 rfl rfl (zfa1 ⟨_, rfl, Or.inl rfl⟩ (zfa0)) r235 g236 m237 i238 c239 (z_nm (fun s240 e241 => ?_))
  have hw := hw s240 e241
  refine z_dup hX dX3_init_178 (zc_rf _) ?_
  refine z_iconst hX (v := (3 : Int32)) dX3_init_179 (by decide) ?_
  refine z_ldcS hX (tx := "room") (j := 13) dX3_init_180 (List.mem_of_getElem? (i := 13) rfl) ?_
  obtain ⟨a242, n243, f244, r245, g246, m247, i248, c249, hw⟩ := hw
  refine z_aastM hX 8 dX3_init_182 rfl rfl (zfa1 ⟨_, rfl, Or.inl rfl⟩ (zfa0)) r245 g246 m247 i248 c249 (z_nm (fun s250 e251 => ?_))
  have hw := hw s250 e251
  refine z_dup hX dX3_init_183 (zc_rf _) ?_
  refine z_iconst hX (v := (4 : Int32)) dX3_init_184 (by decide) ?_
  refine z_ldcS hX (tx := "value") (j := 14) dX3_init_185 (List.mem_of_getElem? (i := 14) rfl) ?_
  obtain ⟨a252, n253, f254, r255, g256, m257, i258, c259, hw⟩ := hw
  refine z_aastM hX 8 dX3_init_187 rfl rfl (zfa1 ⟨_, rfl, Or.inl rfl⟩ (zfa0)) r255 g256 m257 i258 c259 (z_nm (fun s260 e261 => ?_))
  have hw := hw s260 e261
  refine z_dup hX dX3_init_188 (zc_rf _) ?_
  refine z_iconst hX (v := (5 : Int32)) dX3_init_189 (by decide) ?_
  refine z_ldcS hX (tx := "gain") (j := 15) dX3_init_190 (List.mem_of_getElem? (i := 15) rfl) ?_
  obtain ⟨a262, n263, f264, r265, g266, m267, i268, c269, hw⟩ := hw
  refine z_aastM hX 8 dX3_init_192 rfl rfl (zfa1 ⟨_, rfl, Or.inl rfl⟩ (zfa0)) r265 g266 m267 i268 c269 (z_nm (fun s270 e271 => ?_))
  have hw := hw s270 e271
  refine z_dup hX dX3_init_193 (zc_rf _) ?_
  refine z_bipush hX (v := (6 : Int32)) dX3_init_194 (by decide) ?_
  refine z_ldcS hX (tx := "harm") (j := 16) dX3_init_196 (List.mem_of_getElem? (i := 16) rfl) ?_
  obtain ⟨a272, n273, f274, r275, g276, m277, i278, c279, hw⟩ := hw
  refine z_aastM hX 8 dX3_init_198 rfl rfl (zfa1 ⟨_, rfl, Or.inl rfl⟩ (zfa0)) r275 g276 m277 i278 c279 (z_nm (fun s280 e281 => ?_))
  have hw := hw s280 e281
  refine z_dup hX dX3_init_199 (zc_rf _) ?_
  refine z_bipush hX (v := (7 : Int32)) dX3_init_200 (by decide) ?_
  refine z_ldcS hX (tx := "result") (j := 17) dX3_init_202 (List.mem_of_getElem? (i := 17) rfl) ?_
  obtain ⟨a282, n283, f284, r285, g286, m287, i288, c289, hw⟩ := hw
  refine z_aastM hX 8 dX3_init_204 rfl rfl (zfa1 ⟨_, rfl, Or.inl rfl⟩ (zfa0)) r285 g286 m287 i288 c289 (z_nm (fun s290 e291 => ?_))
  have hw := hw s290 e291
  refine z_dup hX dX3_init_205 (zc_rf _) ?_
  refine z_bipush hX (v := (8 : Int32)) dX3_init_206 (by decide) ?_
  refine z_ldcS hX (tx := "answered") (j := 18) dX3_init_208 (List.mem_of_getElem? (i := 18) rfl) ?_
  obtain ⟨a292, n293, f294, r295, g296, m297, i298, c299, hw⟩ := hw
  refine z_aastM hX 8 dX3_init_210 rfl rfl (zfa1 ⟨_, rfl, Or.inl rfl⟩ (zfa0)) r295 g296 m297 i298 c299 (z_nm (fun s300 e301 => ?_))
  have hw := hw s300 e301
  obtain ⟨a304, f305, r306, g307, m308, l309, hw⟩ := hw
  refine z_putF hX zc4 (k := 37) dX3_init_211 (Nat.le_of_ble_eq_true rfl) q2506 rfl hnm rfl (zn_a _ _) (zf_a _ _) r306 g307 m308 l309 (z_nm (fun s302 e303 => ?_))
  have hw := hw s302 e303
  refine z_aload_n hX dX3_init_214 rfl (i := 0) rfl ?_
  refine z_sipush hX (v := (200 : Int32)) dX3_init_215 (by decide) ?_
  refine z_newI hX dX3_init_218 q394 hw.1 hw.2.1 hw.2.2.1 hw.2.2.2.1 (fun z311 => z_nm (fun s310 e312 => ?_))
  have hw := hw.2.2.2.2 z311 s310 e312
  obtain ⟨a315, f316, r317, g318, m319, l320, hw⟩ := hw
  refine z_putF hX zc4 (k := 38) dX3_init_220 (Nat.le_of_ble_eq_true rfl) q2507 rfl hnm rfl (zn_a _ _) (zf_a _ _) r317 g318 m319 l320 (z_nm (fun s313 e314 => ?_))
  have hw := hw s313 e314
  refine z_aload_n hX dX3_init_223 rfl (i := 0) rfl ?_
  refine z_sipush hX (v := (200 : Int32)) dX3_init_224 (by decide) ?_
  refine z_newL hX dX3_init_227 q590 hw.1 hw.2.1 hw.2.2.1 hw.2.2.2.1 (fun z322 => z_nm (fun s321 e323 => ?_))
  have hw := hw.2.2.2.2 z322 s321 e323
  obtain ⟨a326, f327, r328, g329, m330, l331, hw⟩ := hw
  refine z_putF hX zc4 (k := 39) dX3_init_229 (Nat.le_of_ble_eq_true rfl) q2508 rfl hnm rfl (zn_a _ _) (zf_a _ _) r328 g329 m330 l331 (z_nm (fun s324 e325 => ?_))
  have hw := hw s324 e325
  refine z_aload_n hX dX3_init_232 rfl (i := 0) rfl ?_
  obtain ⟨a333, f334, v332, r335, m336, e337, hw⟩ := hw
  refine z_get hX zc4 (k := 0) dX3_init_233 (Nat.le_of_ble_eq_true rfl) (zlk hX q2469) r335 m336 e337 ?_
  refine z_invS hX hd dX3_init_236 (hC 155 _ zm155 _ _ _ _ hw) q2466 q2467 zh7 q2468 q136 zn155 rfl (Nat.le_of_ble_eq_true rfl) (st := []) rfl (zcs8 (Nat.le_of_ble_eq_true rfl)) rfl (zkV (fun s339 hw => ?_)) (zout hX hR hTb)
  exact z_return hX hR dX3_init_239 hw
abbrev cX3_clear : ByteArray := prog_28_method_5_code
def yX3_clear : MethodName := ⟨RX3, "clear", "([I)V"⟩
def dkwX3_clear_0 : List UInt8 := [3, 60, 27, 16, 61, 162, 0, 13, 42, 27, 3, 79, 132, 1, 1, 167, 255, 243, 177]
abbrev dktX3_clear_0 : List UInt8 := dkwX3_clear_0 ++ []
theorem dksX3_clear_0 : cX3_clear.data.toList.drop 0 = dktX3_clear_0 := by decide +kernel
theorem dX3_clear_0 : decode cX3_clear 0 = .ok (.iconst 0, 1) := dk_3 (dk_at dksX3_clear_0 0 rfl rfl)
theorem dX3_clear_1 : decode cX3_clear 1 = .ok (.istore_n 1, 1) := dk_60 (dk_at dksX3_clear_0 1 rfl rfl)
theorem dX3_clear_2 : decode cX3_clear 2 = .ok (.iload_n 1, 1) := dk_27 (dk_at dksX3_clear_0 2 rfl rfl)
theorem dX3_clear_3 : decode cX3_clear 3 = .ok (.bipush 61, 2) := dk_16 61 (dk_at dksX3_clear_0 3 rfl rfl)
theorem dX3_clear_5 : decode cX3_clear 5 = .ok (.if_icmp .ge 13, 3) := dk_162 0 13 (dk_at dksX3_clear_0 5 rfl rfl)
theorem dX3_clear_8 : decode cX3_clear 8 = .ok (.aload_n 0, 1) := dk_42 (dk_at dksX3_clear_0 8 rfl rfl)
theorem dX3_clear_9 : decode cX3_clear 9 = .ok (.iload_n 1, 1) := dk_27 (dk_at dksX3_clear_0 9 rfl rfl)
theorem dX3_clear_10 : decode cX3_clear 10 = .ok (.iconst 0, 1) := dk_3 (dk_at dksX3_clear_0 10 rfl rfl)
theorem dX3_clear_11 : decode cX3_clear 11 = .ok (.iastore, 1) := dk_79 (dk_at dksX3_clear_0 11 rfl rfl)
theorem dX3_clear_12 : decode cX3_clear 12 = .ok (.iinc 1 1, 3) := dk_132 1 1 (dk_at dksX3_clear_0 12 rfl rfl)
theorem dX3_clear_15 : decode cX3_clear 15 = .ok (.goto (-13), 3) := dk_167 255 243 (dk_at dksX3_clear_0 15 rfl rfl)
theorem dX3_clear_18 : decode cX3_clear 18 = .ok (.return_, 1) := dk_177 (dk_at dksX3_clear_0 18 rfl rfl)
/-- PackingDuelModel.clear([I)V -/
def zb155 (G : zPg) (C : zO) (args : List Value) (Q : zQ) (Y : zY) (σ : zS) : Prop := ∃ (x1 : Option Nat), args = [va_rf x1] ∧ (∃ n, zIt (fun _ _ => False) (fun rec3 (p1 : Int32) (s2 : zS) => (((61 : Int32) ≤ p1) → Q none s2) ∧ ((¬ (61 : Int32) ≤ p1) → zsI s2 G.1 0 x1 p1 (0 : Int32) (fun s12 => (∀ v14 : Int32, v14 = p1 + (1 : Int32) → rec3 v14 s12)))) n (0 : Int32) σ)
set_option maxHeartbeats 4000000 in
theorem wk155 {l : Launch} {g : zG} {d : Nat} {C : zO} (hG : zGk g) (hC : zSound l g d C) {args : List Value} {Q : zQ} {Y : zY} {σ : zS} (hw : zb155 (zpg g) C args Q Y σ) : zMet l g (d + 1) (⟨"PackingDuelModel", "clear", "([I)V"⟩, Cond.code ⟨"PackingDuelModel", "clear", "([I)V"⟩ prog_28_method_5_code 2 (Option.none : Option FieldType)) args σ Q Y := by
  obtain ⟨x1, rfl, hw⟩ := hw
  refine zof hG (by decide +kernel) [false] ⟨(zc_rf _), trivial⟩ (Nat.le_of_ble_eq_true rfl) (ls := [some (va_rf x1), none]) rfl ?_
  intro X hX hR hTb hd1 hd2 hl hg hnm
  subst hl
  subst hg
  have hd : zDep X d := ⟨hd1, hd2⟩
  refine z_iconst hX (v := (0 : Int32)) dX3_clear_0 (by decide) ?_
  refine z_istore_n hX dX3_clear_1 rfl (i := 1) (Nat.le_of_ble_eq_true rfl) (zc_rf _) (ls2 := [some (va_rf x1), some (.int (0 : Int32))]) rfl ?_
  obtain ⟨n16, hw⟩ := hw
  refine zIt_w (P := fun (j : Int32 → zS → Prop) => ∀ (p1 : Int32) (s2 : zS), j p1 s2 → zW X s2 2 [some (va_rf x1), some (.int p1)] []) (fun _ _ h => h.elim) (fun rec3 hrec3 p1 s2 hw => ?_) n16 _ _ hw
  refine z_iload_n hX dX3_clear_2 rfl (i := 1) rfl ?_
  refine z_bipush hX (v := (61 : Int32)) dX3_clear_3 (by decide) ?_
  refine z_icmp_ge hX dX3_clear_5 (tgt := 18) rfl (fun c4 => ?_) (fun c4 => ?_)
  · have hw := hw.1 c4
    exact z_return hX hR dX3_clear_18 hw
  · have hw := hw.2 c4
    refine z_aload_n hX dX3_clear_8 rfl (i := 0) rfl ?_
    refine z_iload_n hX dX3_clear_9 rfl (i := 1) rfl ?_
    refine z_iconst hX (v := (0 : Int32)) dX3_clear_10 (by decide) ?_
    obtain ⟨a5, n6, f7, r8, g9, m10, i11, hw⟩ := hw
    refine z_iast hX dX3_clear_11 r8 g9 m10 i11 (z_nm (fun s12 e13 => ?_))
    have hw := hw s12 e13
    obtain ⟨v14, e15⟩ : ∃ y : Int32, y = p1 + (1 : Int32) := ⟨_, rfl⟩
    refine z_iinc hX dX3_clear_12 (i := 1) (v := v14) rfl (by rw [e15]; rfl) (Nat.le_of_ble_eq_true rfl) (zc_rf _) (ls2 := [some (va_rf x1), some (.int v14)]) rfl ?_
    have hw := hw v14 e15
    refine z_goto hX dX3_clear_15 (tgt := 2) rfl ?_
    exact hrec3 _ _ hw
abbrev cX3_thrown : ByteArray := prog_28_method_2_code
def yX3_thrown : MethodName := ⟨RX3, "thrown", "()I"⟩
theorem dX3_thrown_0 : decode cX3_thrown 0 = .ok (.aload_n 0, 1) := by decide +kernel
theorem dX3_thrown_1 : decode cX3_thrown 1 = .ok (.getfield 103, 3) := by decide +kernel
theorem dX3_thrown_4 : decode cX3_thrown 4 = .ok (.ireturn, 1) := by decide +kernel
/-- PackingDuelModel.thrown()I -/
def zb156 (G : zPg) (C : zO) (args : List Value) (Q : zQ) (Y : zY) (σ : zS) : Prop := ∃ (a0 : Nat), args = [.ref a0] ∧ (zgI σ (some a0) 4 5 (fun v1 => Q (some (.int v1)) σ))
set_option maxHeartbeats 4000000 in
theorem wk156 {l : Launch} {g : zG} {d : Nat} {C : zO} (hG : zGk g) (hC : zSound l g d C) {args : List Value} {Q : zQ} {Y : zY} {σ : zS} (hw : zb156 (zpg g) C args Q Y σ) : zMet l g (d + 1) (⟨"PackingDuelModel", "thrown", "()I"⟩, Cond.code ⟨"PackingDuelModel", "thrown", "()I"⟩ prog_28_method_2_code 1 (Option.some FieldType.int)) args σ Q Y := by
  obtain ⟨a0, rfl, hw⟩ := hw
  refine zof hG (by decide +kernel) [false] ⟨rfl, trivial⟩ (Nat.le_of_ble_eq_true rfl) (ls := [some (va_rf (some a0))]) rfl ?_
  intro X hX hR hTb hd1 hd2 hl hg hnm
  subst hl
  subst hg
  have hd : zDep X d := ⟨hd1, hd2⟩
  refine z_aload_n hX dX3_thrown_0 rfl (i := 0) rfl ?_
  obtain ⟨a2, f3, v1, r4, m5, e6, hw⟩ := hw
  refine z_get hX zc4 (k := 5) dX3_thrown_1 (Nat.le_of_ble_eq_true rfl) (zlk hX q2474) r4 m5 e6 ?_
  exact z_ireturn hX hR dX3_thrown_4 rfl hw
abbrev cX3_size : ByteArray := prog_28_method_64_code
def yX3_size : MethodName := ⟨RX3, "size", "(I)I"⟩
def dkwX3_size_2 : List UInt8 := [42, 180, 0, 9, 27, 46, 172, 42, 182, 1, 30, 172, 42, 4, 182, 1, 33, 172]
abbrev dktX3_size_2 : List UInt8 := dkwX3_size_2 ++ []
def dkwX3_size_1 : List UInt8 := [170, 0, 0, 0, 0, 54, 0, 0, 0, 0, 0, 0, 0, 6, 0, 0, 0, 42, 0, 0, 0, 42, 0, 0, 0, 42, 0, 0, 0, 42, 0, 0, 0, 42, 0, 0, 0, 42, 0, 0, 0, 49]
abbrev dktX3_size_1 : List UInt8 := dkwX3_size_1 ++ dktX3_size_2
def dkwX3_size_0 : List UInt8 := [42, 3, 181, 0, 103, 27]
abbrev dktX3_size_0 : List UInt8 := dkwX3_size_0 ++ dktX3_size_1
theorem dksX3_size_0 : cX3_size.data.toList.drop 0 = dktX3_size_0 := by decide +kernel
theorem dksX3_size_1 : cX3_size.data.toList.drop 6 = dktX3_size_1 := dk_seg dksX3_size_0 6 rfl rfl
theorem dksX3_size_2 : cX3_size.data.toList.drop 48 = dktX3_size_2 := dk_seg dksX3_size_1 42 rfl rfl
theorem dX3_size_0 : decode cX3_size 0 = .ok (.aload_n 0, 1) := dk_42 (dk_at dksX3_size_0 0 rfl rfl)
theorem dX3_size_1 : decode cX3_size 1 = .ok (.iconst 0, 1) := dk_3 (dk_at dksX3_size_0 1 rfl rfl)
theorem dX3_size_2 : decode cX3_size 2 = .ok (.putfield 103, 3) := dk_181 0 103 (dk_at dksX3_size_0 2 rfl rfl)
theorem dX3_size_5 : decode cX3_size 5 = .ok (.iload_n 1, 1) := dk_27 (dk_at dksX3_size_0 5 rfl rfl)
theorem dX3_size_6 : decode cX3_size 6 = .ok (.tableswitch 54 0 6 #[42, 42, 42, 42, 42, 42, 49], 42) := by decide +kernel
theorem dX3_size_48 : decode cX3_size 48 = .ok (.aload_n 0, 1) := dk_42 (dk_at dksX3_size_2 0 rfl rfl)
theorem dX3_size_49 : decode cX3_size 49 = .ok (.getfield 9, 3) := dk_180 0 9 (dk_at dksX3_size_2 1 rfl rfl)
theorem dX3_size_52 : decode cX3_size 52 = .ok (.iload_n 1, 1) := dk_27 (dk_at dksX3_size_2 4 rfl rfl)
theorem dX3_size_53 : decode cX3_size 53 = .ok (.iaload, 1) := dk_46 (dk_at dksX3_size_2 5 rfl rfl)
theorem dX3_size_54 : decode cX3_size 54 = .ok (.ireturn, 1) := dk_172 (dk_at dksX3_size_2 6 rfl rfl)
theorem dX3_size_55 : decode cX3_size 55 = .ok (.aload_n 0, 1) := dk_42 (dk_at dksX3_size_2 7 rfl rfl)
theorem dX3_size_56 : decode cX3_size 56 = .ok (.invokevirtual 286, 3) := dk_182 1 30 (dk_at dksX3_size_2 8 rfl rfl)
theorem dX3_size_59 : decode cX3_size 59 = .ok (.ireturn, 1) := dk_172 (dk_at dksX3_size_2 11 rfl rfl)
theorem dX3_size_60 : decode cX3_size 60 = .ok (.aload_n 0, 1) := dk_42 (dk_at dksX3_size_2 12 rfl rfl)
theorem dX3_size_61 : decode cX3_size 61 = .ok (.iconst 1, 1) := dk_4 (dk_at dksX3_size_2 13 rfl rfl)
theorem dX3_size_62 : decode cX3_size 62 = .ok (.invokevirtual 289, 3) := dk_182 1 33 (dk_at dksX3_size_2 14 rfl rfl)
theorem dX3_size_65 : decode cX3_size 65 = .ok (.ireturn, 1) := dk_172 (dk_at dksX3_size_2 17 rfl rfl)
/-- PackingDuelModel.size(I)I -/
def zb157 (G : zPg) (C : zO) (args : List Value) (Q : zQ) (Y : zY) (σ : zS) : Prop := ∃ (a0 : Nat) (x1 : Int32), args = [.ref a0, .int x1] ∧ (zput σ G.1 (some a0) 4 5 (.int (0 : Int32)) (fun s1 => zJ (fun  (s9 : zS) => zgR s9 (some a0) 4 0 (fun v11 => zaI s9 0 v11 x1 (fun v23 => Q (some (.int v23)) s9))) (fun (j10 : zS → Prop) => (x1.toInt < (0) ∨ (6) < x1.toInt → zrc s1 (some a0) 4 (fun a30 => zcl C 163 [.ref a30, .int (1 : Int32)] Y s1 (zqI (fun v27 s28 => Q (some (.int v27)) s28)))) ∧ (x1 = (0) → j10 s1) ∧ (x1 = (1) → j10 s1) ∧ (x1 = (2) → j10 s1) ∧ (x1 = (3) → j10 s1) ∧ (x1 = (4) → j10 s1) ∧ (x1 = (5) → j10 s1) ∧ (x1 = (6) → zrc s1 (some a0) 4 (fun a37 => zcl C 158 [.ref a37] Y s1 (zqI (fun v34 s35 => Q (some (.int v34)) s35)))))))
set_option maxHeartbeats 4000000 in
theorem wk157 {l : Launch} {g : zG} {d : Nat} {C : zO} (hG : zGk g) (hC : zSound l g d C) {args : List Value} {Q : zQ} {Y : zY} {σ : zS} (hw : zb157 (zpg g) C args Q Y σ) : zMet l g (d + 1) (⟨"PackingDuelModel", "size", "(I)I"⟩, Cond.code ⟨"PackingDuelModel", "size", "(I)I"⟩ prog_28_method_64_code 2 (Option.some FieldType.int)) args σ Q Y := by
  obtain ⟨a0, x1, rfl, hw⟩ := hw
  refine zof hG (by decide +kernel) [false, false] ⟨rfl, rfl, trivial⟩ (Nat.le_of_ble_eq_true rfl) (ls := [some (va_rf (some a0)), some (.int x1)]) rfl ?_
  intro X hX hR hTb hd1 hd2 hl hg hnm
  subst hl
  subst hg
  have hd : zDep X d := ⟨hd1, hd2⟩
  refine z_aload_n hX dX3_size_0 rfl (i := 0) rfl ?_
  refine z_iconst hX (v := (0 : Int32)) dX3_size_1 (by decide) ?_
  obtain ⟨a3, f4, r5, g6, m7, l8, hw⟩ := hw
  refine z_put hX zc4 (k := 5) dX3_size_2 (Nat.le_of_ble_eq_true rfl) (zlk hX q2474) rfl rfl rfl r5 g6 m7 l8 (z_nm (fun s1 e2 => ?_))
  have hw := hw s1 e2
  refine z_iload_n hX dX3_size_5 rfl (i := 1) rfl ?_
  refine zJ_w (P := fun (j : zS → Prop) => ∀  (s9 : zS), j  s9 → zW X s9 48 [some (va_rf (some a0)), some (.int x1)] []) hw (fun  s9 hw => ?_) (fun j10 hj10 hw => ?_)
  · refine z_aload_n hX dX3_size_48 rfl (i := 0) rfl ?_
    obtain ⟨a12, f13, v11, r14, m15, e16, hw⟩ := hw
    refine z_get hX zc4 (k := 0) dX3_size_49 (Nat.le_of_ble_eq_true rfl) (zlk hX q2469) r14 m15 e16 ?_
    refine z_iload_n hX dX3_size_52 rfl (i := 1) rfl ?_
    obtain ⟨a17, n18, f19, r20, m21, i22, hw⟩ := hw
    refine z_iald hX dX3_size_53 r20 m21 i22 ?_
    revert hw
    generalize f19 (Int32.toNatClampNeg x1) = v23
    intro hw
    exact z_ireturn hX hR dX3_size_54 rfl hw
  · rcases zsw x1 0 7 (by decide) (by decide) with c25 | ⟨j26, hj26, c25⟩
    · have c25 : x1.toInt < (0) ∨ (6) < x1.toInt := by omega
      refine z_tableOut hX dX3_size_6 c25 (tgt := 60) rfl ?_
      have hw := hw.1 c25
      refine z_aload_n hX dX3_size_60 rfl (i := 0) rfl ?_
      refine z_iconst hX (v := (1 : Int32)) dX3_size_61 (by decide) ?_
      obtain ⟨a30, f31, r32, m33, hw⟩ := hw
      refine z_invV hX hd r32 (ci := 4) rfl rfl m33 dX3_size_62 (hC 163 _ zm163 _ _ _ _ hw) q2620 q2622 qs49 zh7 q2623 q136 zn163 rfl (Nat.le_of_ble_eq_true rfl) (st := []) rfl (zcs8 (Nat.le_of_ble_eq_true rfl)) rfl (zkI (fun v27 s28 hw => ?_)) (zout hX hR hTb)
      exact z_ireturn hX hR dX3_size_65 rfl hw
    · match j26, hj26, c25 with
      | 0, _, c25 =>
        have c25 : x1 = (0) := c25
        refine z_tableIn hX dX3_size_6 (by rw [c25]; decide) (by rw [c25]; decide) (off := 42) (by rw [c25]; rfl) (tgt := 48) rfl ?_
        have hw := hw.2.1 c25
        exact hj10  _ hw
      | 1, _, c25 =>
        have c25 : x1 = (1) := c25
        refine z_tableIn hX dX3_size_6 (by rw [c25]; decide) (by rw [c25]; decide) (off := 42) (by rw [c25]; rfl) (tgt := 48) rfl ?_
        have hw := hw.2.2.1 c25
        exact hj10  _ hw
      | 2, _, c25 =>
        have c25 : x1 = (2) := c25
        refine z_tableIn hX dX3_size_6 (by rw [c25]; decide) (by rw [c25]; decide) (off := 42) (by rw [c25]; rfl) (tgt := 48) rfl ?_
        have hw := hw.2.2.2.1 c25
        exact hj10  _ hw
      | 3, _, c25 =>
        have c25 : x1 = (3) := c25
        refine z_tableIn hX dX3_size_6 (by rw [c25]; decide) (by rw [c25]; decide) (off := 42) (by rw [c25]; rfl) (tgt := 48) rfl ?_
        have hw := hw.2.2.2.2.1 c25
        exact hj10  _ hw
      | 4, _, c25 =>
        have c25 : x1 = (4) := c25
        refine z_tableIn hX dX3_size_6 (by rw [c25]; decide) (by rw [c25]; decide) (off := 42) (by rw [c25]; rfl) (tgt := 48) rfl ?_
        have hw := hw.2.2.2.2.2.1 c25
        exact hj10  _ hw
      | 5, _, c25 =>
        have c25 : x1 = (5) := c25
        refine z_tableIn hX dX3_size_6 (by rw [c25]; decide) (by rw [c25]; decide) (off := 42) (by rw [c25]; rfl) (tgt := 48) rfl ?_
        have hw := hw.2.2.2.2.2.2.1 c25
        exact hj10  _ hw
      | 6, _, c25 =>
        have c25 : x1 = (6) := c25
        refine z_tableIn hX dX3_size_6 (by rw [c25]; decide) (by rw [c25]; decide) (off := 49) (by rw [c25]; rfl) (tgt := 55) rfl ?_
        have hw := hw.2.2.2.2.2.2.2 c25
        refine z_aload_n hX dX3_size_55 rfl (i := 0) rfl ?_
        obtain ⟨a37, f38, r39, m40, hw⟩ := hw
        refine z_invV hX hd r39 (ci := 4) rfl rfl m40 dX3_size_56 (hC 158 _ zm158 _ _ _ _ hw) q2601 q2603 qs45 zh7 q2604 q136 zn158 rfl (Nat.le_of_ble_eq_true rfl) (st := []) rfl (zcs8 (Nat.le_of_ble_eq_true rfl)) rfl (zkI (fun v34 s35 hw => ?_)) (zout hX hR hTb)
        exact z_ireturn hX hR dX3_size_59 rfl hw
      | j26 + 7, h, _ => exact absurd h (by omega)
abbrev cX3_plans : ByteArray := prog_28_method_21_code
def yX3_plans : MethodName := ⟨RX3, "plans", "()I"⟩
def dkwX3_plans_1 : List UInt8 := [167, 0, 4, 3, 96, 60, 132, 2, 1, 167, 255, 227, 27, 172]
abbrev dktX3_plans_1 : List UInt8 := dkwX3_plans_1 ++ []
def dkwX3_plans_0 : List UInt8 := [3, 60, 3, 61, 28, 4, 42, 182, 0, 106, 120, 162, 0, 25, 27, 42, 28, 182, 0, 125, 155, 0, 7, 4]
abbrev dktX3_plans_0 : List UInt8 := dkwX3_plans_0 ++ dktX3_plans_1
theorem dksX3_plans_0 : cX3_plans.data.toList.drop 0 = dktX3_plans_0 := by decide +kernel
theorem dksX3_plans_1 : cX3_plans.data.toList.drop 24 = dktX3_plans_1 := dk_seg dksX3_plans_0 24 rfl rfl
theorem dX3_plans_0 : decode cX3_plans 0 = .ok (.iconst 0, 1) := dk_3 (dk_at dksX3_plans_0 0 rfl rfl)
theorem dX3_plans_1 : decode cX3_plans 1 = .ok (.istore_n 1, 1) := dk_60 (dk_at dksX3_plans_0 1 rfl rfl)
theorem dX3_plans_2 : decode cX3_plans 2 = .ok (.iconst 0, 1) := dk_3 (dk_at dksX3_plans_0 2 rfl rfl)
theorem dX3_plans_3 : decode cX3_plans 3 = .ok (.istore_n 2, 1) := dk_61 (dk_at dksX3_plans_0 3 rfl rfl)
theorem dX3_plans_4 : decode cX3_plans 4 = .ok (.iload_n 2, 1) := dk_28 (dk_at dksX3_plans_0 4 rfl rfl)
theorem dX3_plans_5 : decode cX3_plans 5 = .ok (.iconst 1, 1) := dk_4 (dk_at dksX3_plans_0 5 rfl rfl)
theorem dX3_plans_6 : decode cX3_plans 6 = .ok (.aload_n 0, 1) := dk_42 (dk_at dksX3_plans_0 6 rfl rfl)
theorem dX3_plans_7 : decode cX3_plans 7 = .ok (.invokevirtual 106, 3) := dk_182 0 106 (dk_at dksX3_plans_0 7 rfl rfl)
theorem dX3_plans_10 : decode cX3_plans 10 = .ok (.ishl, 1) := dk_120 (dk_at dksX3_plans_0 10 rfl rfl)
theorem dX3_plans_11 : decode cX3_plans 11 = .ok (.if_icmp .ge 25, 3) := dk_162 0 25 (dk_at dksX3_plans_0 11 rfl rfl)
theorem dX3_plans_14 : decode cX3_plans 14 = .ok (.iload_n 1, 1) := dk_27 (dk_at dksX3_plans_0 14 rfl rfl)
theorem dX3_plans_15 : decode cX3_plans 15 = .ok (.aload_n 0, 1) := dk_42 (dk_at dksX3_plans_0 15 rfl rfl)
theorem dX3_plans_16 : decode cX3_plans 16 = .ok (.iload_n 2, 1) := dk_28 (dk_at dksX3_plans_0 16 rfl rfl)
theorem dX3_plans_17 : decode cX3_plans 17 = .ok (.invokevirtual 125, 3) := dk_182 0 125 (dk_at dksX3_plans_0 17 rfl rfl)
theorem dX3_plans_20 : decode cX3_plans 20 = .ok (.ifCond .lt 7, 3) := dk_155 0 7 (dk_at dksX3_plans_0 20 rfl rfl)
theorem dX3_plans_23 : decode cX3_plans 23 = .ok (.iconst 1, 1) := dk_4 (dk_at dksX3_plans_0 23 rfl rfl)
theorem dX3_plans_24 : decode cX3_plans 24 = .ok (.goto 4, 3) := dk_167 0 4 (dk_at dksX3_plans_1 0 rfl rfl)
theorem dX3_plans_27 : decode cX3_plans 27 = .ok (.iconst 0, 1) := dk_3 (dk_at dksX3_plans_1 3 rfl rfl)
theorem dX3_plans_28 : decode cX3_plans 28 = .ok (.iadd, 1) := dk_96 (dk_at dksX3_plans_1 4 rfl rfl)
theorem dX3_plans_29 : decode cX3_plans 29 = .ok (.istore_n 1, 1) := dk_60 (dk_at dksX3_plans_1 5 rfl rfl)
theorem dX3_plans_30 : decode cX3_plans 30 = .ok (.iinc 2 1, 3) := dk_132 2 1 (dk_at dksX3_plans_1 6 rfl rfl)
theorem dX3_plans_33 : decode cX3_plans 33 = .ok (.goto (-29), 3) := dk_167 255 227 (dk_at dksX3_plans_1 9 rfl rfl)
theorem dX3_plans_36 : decode cX3_plans 36 = .ok (.iload_n 1, 1) := dk_27 (dk_at dksX3_plans_1 12 rfl rfl)
theorem dX3_plans_37 : decode cX3_plans 37 = .ok (.ireturn, 1) := dk_172 (dk_at dksX3_plans_1 13 rfl rfl)
/-- PackingDuelModel.plans()I -/
def zb158 (G : zPg) (C : zO) (args : List Value) (Q : zQ) (Y : zY) (σ : zS) : Prop := ∃ (a0 : Nat), args = [.ref a0] ∧ (∃ n, zIt (fun _ _ _ => False) (fun rec4 (p1 : Int32) (p2 : Int32) (s3 : zS) => zrc s3 (some a0) 4 (fun a8 => zcl C 159 [.ref a8] Y s3 (zqI (fun v5 s6 => ((((1 : Int32) <<< (v5 &&& 31)) ≤ p2) → Q (some (.int p1)) s6) ∧ ((¬ ((1 : Int32) <<< (v5 &&& 31)) ≤ p2) → zrc s6 (some a0) 4 (fun a16 => zcl C 160 [.ref a16, .int p2] Y s6 (zqI (fun v13 s14 => zJ (fun (p20 : Int32) (s21 : zS) => (∀ v23 : Int32, v23 = p2 + (1 : Int32) → rec4 (p1 + p20) v23 s21)) (fun (j22 : Int32 → zS → Prop) => ((v13 < 0) → j22 (0 : Int32) s14) ∧ ((¬ v13 < 0) → j22 (1 : Int32) s14)))))))))) n (0 : Int32) (0 : Int32) σ)
set_option maxHeartbeats 4000000 in
theorem wk158 {l : Launch} {g : zG} {d : Nat} {C : zO} (hG : zGk g) (hC : zSound l g d C) {args : List Value} {Q : zQ} {Y : zY} {σ : zS} (hw : zb158 (zpg g) C args Q Y σ) : zMet l g (d + 1) (⟨"PackingDuelModel", "plans", "()I"⟩, Cond.code ⟨"PackingDuelModel", "plans", "()I"⟩ prog_28_method_21_code 3 (Option.some FieldType.int)) args σ Q Y := by
  obtain ⟨a0, rfl, hw⟩ := hw
  refine zof hG (by decide +kernel) [false] ⟨rfl, trivial⟩ (Nat.le_of_ble_eq_true rfl) (ls := [some (va_rf (some a0)), none, none]) rfl ?_
  intro X hX hR hTb hd1 hd2 hl hg hnm
  subst hl
  subst hg
  have hd : zDep X d := ⟨hd1, hd2⟩
  refine z_iconst hX (v := (0 : Int32)) dX3_plans_0 (by decide) ?_
  refine z_istore_n hX dX3_plans_1 rfl (i := 1) (Nat.le_of_ble_eq_true rfl) (zc_rf _) (ls2 := [some (va_rf (some a0)), some (.int (0 : Int32)), none]) rfl ?_
  refine z_iconst hX (v := (0 : Int32)) dX3_plans_2 (by decide) ?_
  refine z_istore_n hX dX3_plans_3 rfl (i := 2) (Nat.le_of_ble_eq_true rfl) rfl (ls2 := [some (va_rf (some a0)), some (.int (0 : Int32)), some (.int (0 : Int32))]) rfl ?_
  obtain ⟨n26, hw⟩ := hw
  refine zIt_w (P := fun (j : Int32 → Int32 → zS → Prop) => ∀ (p1 : Int32) (p2 : Int32) (s3 : zS), j p1 p2 s3 → zW X s3 4 [some (va_rf (some a0)), some (.int p1), some (.int p2)] []) (fun _ _ _ h => h.elim) (fun rec4 hrec4 p1 p2 s3 hw => ?_) n26 _ _ _ hw
  refine z_iload_n hX dX3_plans_4 rfl (i := 2) rfl ?_
  refine z_iconst hX (v := (1 : Int32)) dX3_plans_5 (by decide) ?_
  refine z_aload_n hX dX3_plans_6 rfl (i := 0) rfl ?_
  obtain ⟨a8, f9, r10, m11, hw⟩ := hw
  refine z_invV hX hd r10 (ci := 4) rfl rfl m11 dX3_plans_7 (hC 159 _ zm159 _ _ _ _ hw) q2605 q2607 qs46 zh7 q2608 q136 zn159 rfl (Nat.le_of_ble_eq_true rfl) (st := [.int (1 : Int32), .int p2]) rfl (zcs8 (Nat.le_of_ble_eq_true rfl)) rfl (zkI (fun v5 s6 hw => ?_)) (zout hX hR hTb)
  refine z_ishl hX dX3_plans_10 ?_
  refine z_icmp_ge hX dX3_plans_11 (tgt := 36) rfl (fun c12 => ?_) (fun c12 => ?_)
  · have hw := hw.1 c12
    refine z_iload_n hX dX3_plans_36 rfl (i := 1) rfl ?_
    exact z_ireturn hX hR dX3_plans_37 rfl hw
  · have hw := hw.2 c12
    refine z_iload_n hX dX3_plans_14 rfl (i := 1) rfl ?_
    refine z_aload_n hX dX3_plans_15 rfl (i := 0) rfl ?_
    refine z_iload_n hX dX3_plans_16 rfl (i := 2) rfl ?_
    obtain ⟨a16, f17, r18, m19, hw⟩ := hw
    refine z_invV hX hd r18 (ci := 4) rfl rfl m19 dX3_plans_17 (hC 160 _ zm160 _ _ _ _ hw) q2609 q2611 qs47 zh7 q2612 q136 zn160 rfl (Nat.le_of_ble_eq_true rfl) (st := [.int p1]) rfl (zcs8 (Nat.le_of_ble_eq_true rfl)) rfl (zkI (fun v13 s14 hw => ?_)) (zout hX hR hTb)
    refine zJ_w (P := fun (j : Int32 → zS → Prop) => ∀ (p20 : Int32) (s21 : zS), j p20 s21 → zW X s21 28 [some (va_rf (some a0)), none, some (.int p2)] [.int p20, .int p1]) hw (fun p20 s21 hw => ?_) (fun j22 hj22 hw => ?_)
    · refine z_iadd hX dX3_plans_28 ?_
      refine z_istore_n hX dX3_plans_29 rfl (i := 1) (Nat.le_of_ble_eq_true rfl) (zc_rf _) (ls2 := [some (va_rf (some a0)), some (.int (p1 + p20)), some (.int p2)]) rfl ?_
      obtain ⟨v23, e24⟩ : ∃ y : Int32, y = p2 + (1 : Int32) := ⟨_, rfl⟩
      refine z_iinc hX dX3_plans_30 (i := 2) (v := v23) rfl (by rw [e24]; rfl) (Nat.le_of_ble_eq_true rfl) rfl (ls2 := [some (va_rf (some a0)), some (.int (p1 + p20)), some (.int v23)]) rfl ?_
      have hw := hw v23 e24
      refine z_goto hX dX3_plans_33 (tgt := 4) rfl ?_
      exact hrec4 _ _ _ hw
    · refine z_if_lt hX dX3_plans_20 (tgt := 27) rfl (fun c25 => ?_) (fun c25 => ?_)
      · have hw := hw.1 c25
        refine z_iconst hX (v := (0 : Int32)) dX3_plans_27 (by decide) ?_
        refine z_sub (ls' := [some (va_rf (some a0)), none, some (.int p2)]) (zsS (zsN (zsS (zs0)))) ?_
        exact hj22 _ _ hw
      · have hw := hw.2 c25
        refine z_iconst hX (v := (1 : Int32)) dX3_plans_23 (by decide) ?_
        refine z_goto hX dX3_plans_24 (tgt := 28) rfl ?_
        refine z_sub (ls' := [some (va_rf (some a0)), none, some (.int p2)]) (zsS (zsN (zsS (zs0)))) ?_
        exact hj22 _ _ hw
abbrev cX3_items : ByteArray := prog_28_method_6_code
def yX3_items : MethodName := ⟨RX3, "items", "()I"⟩
def dkwX3_items_0 : List UInt8 := [42, 180, 0, 9, 3, 46, 172]
abbrev dktX3_items_0 : List UInt8 := dkwX3_items_0 ++ []
theorem dksX3_items_0 : cX3_items.data.toList.drop 0 = dktX3_items_0 := by decide +kernel
theorem dX3_items_0 : decode cX3_items 0 = .ok (.aload_n 0, 1) := dk_42 (dk_at dksX3_items_0 0 rfl rfl)
theorem dX3_items_1 : decode cX3_items 1 = .ok (.getfield 9, 3) := dk_180 0 9 (dk_at dksX3_items_0 1 rfl rfl)
theorem dX3_items_4 : decode cX3_items 4 = .ok (.iconst 0, 1) := dk_3 (dk_at dksX3_items_0 4 rfl rfl)
theorem dX3_items_5 : decode cX3_items 5 = .ok (.iaload, 1) := dk_46 (dk_at dksX3_items_0 5 rfl rfl)
theorem dX3_items_6 : decode cX3_items 6 = .ok (.ireturn, 1) := dk_172 (dk_at dksX3_items_0 6 rfl rfl)
/-- PackingDuelModel.items()I -/
def zb159 (G : zPg) (C : zO) (args : List Value) (Q : zQ) (Y : zY) (σ : zS) : Prop := ∃ (a0 : Nat), args = [.ref a0] ∧ (zgR σ (some a0) 4 0 (fun v1 => zaI σ 0 v1 (0 : Int32) (fun v13 => Q (some (.int v13)) σ)))
set_option maxHeartbeats 4000000 in
theorem wk159 {l : Launch} {g : zG} {d : Nat} {C : zO} (hG : zGk g) (hC : zSound l g d C) {args : List Value} {Q : zQ} {Y : zY} {σ : zS} (hw : zb159 (zpg g) C args Q Y σ) : zMet l g (d + 1) (⟨"PackingDuelModel", "items", "()I"⟩, Cond.code ⟨"PackingDuelModel", "items", "()I"⟩ prog_28_method_6_code 1 (Option.some FieldType.int)) args σ Q Y := by
  obtain ⟨a0, rfl, hw⟩ := hw
  refine zof hG (by decide +kernel) [false] ⟨rfl, trivial⟩ (Nat.le_of_ble_eq_true rfl) (ls := [some (va_rf (some a0))]) rfl ?_
  intro X hX hR hTb hd1 hd2 hl hg hnm
  subst hl
  subst hg
  have hd : zDep X d := ⟨hd1, hd2⟩
  refine z_aload_n hX dX3_items_0 rfl (i := 0) rfl ?_
  obtain ⟨a2, f3, v1, r4, m5, e6, hw⟩ := hw
  refine z_get hX zc4 (k := 0) dX3_items_1 (Nat.le_of_ble_eq_true rfl) (zlk hX q2469) r4 m5 e6 ?_
  refine z_iconst hX (v := (0 : Int32)) dX3_items_4 (by decide) ?_
  obtain ⟨a7, n8, f9, r10, m11, i12, hw⟩ := hw
  refine z_iald hX dX3_items_5 r10 m11 i12 ?_
  revert hw
  generalize f9 (Int32.toNatClampNeg (0 : Int32)) = v13
  intro hw
  exact z_ireturn hX hR dX3_items_6 rfl hw
abbrev cX3_roomOf : ByteArray := prog_28_method_12_code
def yX3_roomOf : MethodName := ⟨RX3, "roomOf", "(I)I"⟩
def dkwX3_roomOf_0 : List UInt8 := [42, 180, 0, 9, 4, 46, 42, 27, 3, 182, 0, 117, 100, 172]
abbrev dktX3_roomOf_0 : List UInt8 := dkwX3_roomOf_0 ++ []
theorem dksX3_roomOf_0 : cX3_roomOf.data.toList.drop 0 = dktX3_roomOf_0 := by decide +kernel
theorem dX3_roomOf_0 : decode cX3_roomOf 0 = .ok (.aload_n 0, 1) := dk_42 (dk_at dksX3_roomOf_0 0 rfl rfl)
theorem dX3_roomOf_1 : decode cX3_roomOf 1 = .ok (.getfield 9, 3) := dk_180 0 9 (dk_at dksX3_roomOf_0 1 rfl rfl)
theorem dX3_roomOf_4 : decode cX3_roomOf 4 = .ok (.iconst 1, 1) := dk_4 (dk_at dksX3_roomOf_0 4 rfl rfl)
theorem dX3_roomOf_5 : decode cX3_roomOf 5 = .ok (.iaload, 1) := dk_46 (dk_at dksX3_roomOf_0 5 rfl rfl)
theorem dX3_roomOf_6 : decode cX3_roomOf 6 = .ok (.aload_n 0, 1) := dk_42 (dk_at dksX3_roomOf_0 6 rfl rfl)
theorem dX3_roomOf_7 : decode cX3_roomOf 7 = .ok (.iload_n 1, 1) := dk_27 (dk_at dksX3_roomOf_0 7 rfl rfl)
theorem dX3_roomOf_8 : decode cX3_roomOf 8 = .ok (.iconst 0, 1) := dk_3 (dk_at dksX3_roomOf_0 8 rfl rfl)
theorem dX3_roomOf_9 : decode cX3_roomOf 9 = .ok (.invokevirtual 117, 3) := dk_182 0 117 (dk_at dksX3_roomOf_0 9 rfl rfl)
theorem dX3_roomOf_12 : decode cX3_roomOf 12 = .ok (.isub, 1) := dk_100 (dk_at dksX3_roomOf_0 12 rfl rfl)
theorem dX3_roomOf_13 : decode cX3_roomOf 13 = .ok (.ireturn, 1) := dk_172 (dk_at dksX3_roomOf_0 13 rfl rfl)
/-- PackingDuelModel.roomOf(I)I -/
def zb160 (G : zPg) (C : zO) (args : List Value) (Q : zQ) (Y : zY) (σ : zS) : Prop := ∃ (a0 : Nat) (x1 : Int32), args = [.ref a0, .int x1] ∧ (zgR σ (some a0) 4 0 (fun v1 => zaI σ 0 v1 (1 : Int32) (fun v13 => zrc σ (some a0) 4 (fun a18 => zcl C 161 [.ref a18, .int x1, .int (0 : Int32)] Y σ (zqI (fun v15 s16 => Q (some (.int (v13 - v15))) s16))))))
set_option maxHeartbeats 4000000 in
theorem wk160 {l : Launch} {g : zG} {d : Nat} {C : zO} (hG : zGk g) (hC : zSound l g d C) {args : List Value} {Q : zQ} {Y : zY} {σ : zS} (hw : zb160 (zpg g) C args Q Y σ) : zMet l g (d + 1) (⟨"PackingDuelModel", "roomOf", "(I)I"⟩, Cond.code ⟨"PackingDuelModel", "roomOf", "(I)I"⟩ prog_28_method_12_code 2 (Option.some FieldType.int)) args σ Q Y := by
  obtain ⟨a0, x1, rfl, hw⟩ := hw
  refine zof hG (by decide +kernel) [false, false] ⟨rfl, rfl, trivial⟩ (Nat.le_of_ble_eq_true rfl) (ls := [some (va_rf (some a0)), some (.int x1)]) rfl ?_
  intro X hX hR hTb hd1 hd2 hl hg hnm
  subst hl
  subst hg
  have hd : zDep X d := ⟨hd1, hd2⟩
  refine z_aload_n hX dX3_roomOf_0 rfl (i := 0) rfl ?_
  obtain ⟨a2, f3, v1, r4, m5, e6, hw⟩ := hw
  refine z_get hX zc4 (k := 0) dX3_roomOf_1 (Nat.le_of_ble_eq_true rfl) (zlk hX q2469) r4 m5 e6 ?_
  refine z_iconst hX (v := (1 : Int32)) dX3_roomOf_4 (by decide) ?_
  obtain ⟨a7, n8, f9, r10, m11, i12, hw⟩ := hw
  refine z_iald hX dX3_roomOf_5 r10 m11 i12 ?_
  revert hw
  generalize f9 (Int32.toNatClampNeg (1 : Int32)) = v13
  intro hw
  refine z_aload_n hX dX3_roomOf_6 rfl (i := 0) rfl ?_
  refine z_iload_n hX dX3_roomOf_7 rfl (i := 1) rfl ?_
  refine z_iconst hX (v := (0 : Int32)) dX3_roomOf_8 (by decide) ?_
  obtain ⟨a18, f19, r20, m21, hw⟩ := hw
  refine z_invV hX hd r20 (ci := 4) rfl rfl m21 dX3_roomOf_9 (hC 161 _ zm161 _ _ _ _ hw) q2613 q2615 qs48 zh7 q2616 q136 zn161 rfl (Nat.le_of_ble_eq_true rfl) (st := [.int v13]) rfl (zcs8 (Nat.le_of_ble_eq_true rfl)) rfl (zkI (fun v15 s16 hw => ?_)) (zout hX hR hTb)
  refine z_isub hX dX3_roomOf_12 ?_
  exact z_ireturn hX hR dX3_roomOf_13 rfl hw
abbrev cX3_sum : ByteArray := prog_28_method_11_code
def yX3_sum : MethodName := ⟨RX3, "sum", "(II)I"⟩
def dkwX3_sum_0 : List UInt8 := [42, 180, 0, 9, 27, 28, 184, 0, 113, 172]
abbrev dktX3_sum_0 : List UInt8 := dkwX3_sum_0 ++ []
theorem dksX3_sum_0 : cX3_sum.data.toList.drop 0 = dktX3_sum_0 := by decide +kernel
theorem dX3_sum_0 : decode cX3_sum 0 = .ok (.aload_n 0, 1) := dk_42 (dk_at dksX3_sum_0 0 rfl rfl)
theorem dX3_sum_1 : decode cX3_sum 1 = .ok (.getfield 9, 3) := dk_180 0 9 (dk_at dksX3_sum_0 1 rfl rfl)
theorem dX3_sum_4 : decode cX3_sum 4 = .ok (.iload_n 1, 1) := dk_27 (dk_at dksX3_sum_0 4 rfl rfl)
theorem dX3_sum_5 : decode cX3_sum 5 = .ok (.iload_n 2, 1) := dk_28 (dk_at dksX3_sum_0 5 rfl rfl)
theorem dX3_sum_6 : decode cX3_sum 6 = .ok (.invokestatic 113, 3) := dk_184 0 113 (dk_at dksX3_sum_0 6 rfl rfl)
theorem dX3_sum_9 : decode cX3_sum 9 = .ok (.ireturn, 1) := dk_172 (dk_at dksX3_sum_0 9 rfl rfl)
/-- PackingDuelModel.sum(II)I -/
def zb161 (G : zPg) (C : zO) (args : List Value) (Q : zQ) (Y : zY) (σ : zS) : Prop := ∃ (a0 : Nat) (x1 : Int32) (x2 : Int32), args = [.ref a0, .int x1, .int x2] ∧ (zgR σ (some a0) 4 0 (fun v1 => zcl C 162 [va_rf v1, .int x1, .int x2] Y σ (zqI (fun v7 s8 => Q (some (.int v7)) s8))))
set_option maxHeartbeats 4000000 in
theorem wk161 {l : Launch} {g : zG} {d : Nat} {C : zO} (hG : zGk g) (hC : zSound l g d C) {args : List Value} {Q : zQ} {Y : zY} {σ : zS} (hw : zb161 (zpg g) C args Q Y σ) : zMet l g (d + 1) (⟨"PackingDuelModel", "sum", "(II)I"⟩, Cond.code ⟨"PackingDuelModel", "sum", "(II)I"⟩ prog_28_method_11_code 3 (Option.some FieldType.int)) args σ Q Y := by
  obtain ⟨a0, x1, x2, rfl, hw⟩ := hw
  refine zof hG (by decide +kernel) [false, false, false] ⟨rfl, rfl, rfl, trivial⟩ (Nat.le_of_ble_eq_true rfl) (ls := [some (va_rf (some a0)), some (.int x1), some (.int x2)]) rfl ?_
  intro X hX hR hTb hd1 hd2 hl hg hnm
  subst hl
  subst hg
  have hd : zDep X d := ⟨hd1, hd2⟩
  refine z_aload_n hX dX3_sum_0 rfl (i := 0) rfl ?_
  obtain ⟨a2, f3, v1, r4, m5, e6, hw⟩ := hw
  refine z_get hX zc4 (k := 0) dX3_sum_1 (Nat.le_of_ble_eq_true rfl) (zlk hX q2469) r4 m5 e6 ?_
  refine z_iload_n hX dX3_sum_4 rfl (i := 1) rfl ?_
  refine z_iload_n hX dX3_sum_5 rfl (i := 2) rfl ?_
  refine z_invS hX hd dX3_sum_6 (hC 162 _ zm162 _ _ _ _ hw) q2617 q2618 zh7 q2619 q136 zn162 rfl (Nat.le_of_ble_eq_true rfl) (st := []) rfl (zcs8 (Nat.le_of_ble_eq_true rfl)) rfl (zkI (fun v7 s8 hw => ?_)) (zout hX hR hTb)
  exact z_ireturn hX hR dX3_sum_9 rfl hw
abbrev cX3_sumIn : ByteArray := prog_28_method_10_code
def yX3_sumIn : MethodName := ⟨RX3, "sumIn", "([III)I"⟩
def dkwX3_sumIn_2 : List UInt8 := [172]
abbrev dktX3_sumIn_2 : List UInt8 := dkwX3_sumIn_2 ++ []
def dkwX3_sumIn_1 : List UInt8 := [42, 16, 11, 7, 21, 4, 104, 96, 28, 96, 46, 167, 0, 4, 3, 96, 62, 132, 4, 1, 167, 255, 217, 29]
abbrev dktX3_sumIn_1 : List UInt8 := dkwX3_sumIn_1 ++ dktX3_sumIn_2
def dkwX3_sumIn_0 : List UInt8 := [3, 62, 3, 54, 4, 21, 4, 42, 3, 46, 162, 0, 37, 29, 27, 21, 4, 122, 4, 126, 4, 160, 0, 17]
abbrev dktX3_sumIn_0 : List UInt8 := dkwX3_sumIn_0 ++ dktX3_sumIn_1
theorem dksX3_sumIn_0 : cX3_sumIn.data.toList.drop 0 = dktX3_sumIn_0 := by decide +kernel
theorem dksX3_sumIn_1 : cX3_sumIn.data.toList.drop 24 = dktX3_sumIn_1 := dk_seg dksX3_sumIn_0 24 rfl rfl
theorem dksX3_sumIn_2 : cX3_sumIn.data.toList.drop 48 = dktX3_sumIn_2 := dk_seg dksX3_sumIn_1 24 rfl rfl
theorem dX3_sumIn_0 : decode cX3_sumIn 0 = .ok (.iconst 0, 1) := dk_3 (dk_at dksX3_sumIn_0 0 rfl rfl)
theorem dX3_sumIn_1 : decode cX3_sumIn 1 = .ok (.istore_n 3, 1) := dk_62 (dk_at dksX3_sumIn_0 1 rfl rfl)
theorem dX3_sumIn_2 : decode cX3_sumIn 2 = .ok (.iconst 0, 1) := dk_3 (dk_at dksX3_sumIn_0 2 rfl rfl)
theorem dX3_sumIn_3 : decode cX3_sumIn 3 = .ok (.istore 4, 2) := dk_54 4 (dk_at dksX3_sumIn_0 3 rfl rfl)
theorem dX3_sumIn_5 : decode cX3_sumIn 5 = .ok (.iload 4, 2) := dk_21 4 (dk_at dksX3_sumIn_0 5 rfl rfl)
theorem dX3_sumIn_7 : decode cX3_sumIn 7 = .ok (.aload_n 0, 1) := dk_42 (dk_at dksX3_sumIn_0 7 rfl rfl)
theorem dX3_sumIn_8 : decode cX3_sumIn 8 = .ok (.iconst 0, 1) := dk_3 (dk_at dksX3_sumIn_0 8 rfl rfl)
theorem dX3_sumIn_9 : decode cX3_sumIn 9 = .ok (.iaload, 1) := dk_46 (dk_at dksX3_sumIn_0 9 rfl rfl)
theorem dX3_sumIn_10 : decode cX3_sumIn 10 = .ok (.if_icmp .ge 37, 3) := dk_162 0 37 (dk_at dksX3_sumIn_0 10 rfl rfl)
theorem dX3_sumIn_13 : decode cX3_sumIn 13 = .ok (.iload_n 3, 1) := dk_29 (dk_at dksX3_sumIn_0 13 rfl rfl)
theorem dX3_sumIn_14 : decode cX3_sumIn 14 = .ok (.iload_n 1, 1) := dk_27 (dk_at dksX3_sumIn_0 14 rfl rfl)
theorem dX3_sumIn_15 : decode cX3_sumIn 15 = .ok (.iload 4, 2) := dk_21 4 (dk_at dksX3_sumIn_0 15 rfl rfl)
theorem dX3_sumIn_17 : decode cX3_sumIn 17 = .ok (.ishr, 1) := dk_122 (dk_at dksX3_sumIn_0 17 rfl rfl)
theorem dX3_sumIn_18 : decode cX3_sumIn 18 = .ok (.iconst 1, 1) := dk_4 (dk_at dksX3_sumIn_0 18 rfl rfl)
theorem dX3_sumIn_19 : decode cX3_sumIn 19 = .ok (.iand, 1) := dk_126 (dk_at dksX3_sumIn_0 19 rfl rfl)
theorem dX3_sumIn_20 : decode cX3_sumIn 20 = .ok (.iconst 1, 1) := dk_4 (dk_at dksX3_sumIn_0 20 rfl rfl)
theorem dX3_sumIn_21 : decode cX3_sumIn 21 = .ok (.if_icmp .ne 17, 3) := dk_160 0 17 (dk_at dksX3_sumIn_0 21 rfl rfl)
theorem dX3_sumIn_24 : decode cX3_sumIn 24 = .ok (.aload_n 0, 1) := dk_42 (dk_at dksX3_sumIn_1 0 rfl rfl)
theorem dX3_sumIn_25 : decode cX3_sumIn 25 = .ok (.bipush 11, 2) := dk_16 11 (dk_at dksX3_sumIn_1 1 rfl rfl)
theorem dX3_sumIn_27 : decode cX3_sumIn 27 = .ok (.iconst 4, 1) := dk_7 (dk_at dksX3_sumIn_1 3 rfl rfl)
theorem dX3_sumIn_28 : decode cX3_sumIn 28 = .ok (.iload 4, 2) := dk_21 4 (dk_at dksX3_sumIn_1 4 rfl rfl)
theorem dX3_sumIn_30 : decode cX3_sumIn 30 = .ok (.imul, 1) := dk_104 (dk_at dksX3_sumIn_1 6 rfl rfl)
theorem dX3_sumIn_31 : decode cX3_sumIn 31 = .ok (.iadd, 1) := dk_96 (dk_at dksX3_sumIn_1 7 rfl rfl)
theorem dX3_sumIn_32 : decode cX3_sumIn 32 = .ok (.iload_n 2, 1) := dk_28 (dk_at dksX3_sumIn_1 8 rfl rfl)
theorem dX3_sumIn_33 : decode cX3_sumIn 33 = .ok (.iadd, 1) := dk_96 (dk_at dksX3_sumIn_1 9 rfl rfl)
theorem dX3_sumIn_34 : decode cX3_sumIn 34 = .ok (.iaload, 1) := dk_46 (dk_at dksX3_sumIn_1 10 rfl rfl)
theorem dX3_sumIn_35 : decode cX3_sumIn 35 = .ok (.goto 4, 3) := dk_167 0 4 (dk_at dksX3_sumIn_1 11 rfl rfl)
theorem dX3_sumIn_38 : decode cX3_sumIn 38 = .ok (.iconst 0, 1) := dk_3 (dk_at dksX3_sumIn_1 14 rfl rfl)
theorem dX3_sumIn_39 : decode cX3_sumIn 39 = .ok (.iadd, 1) := dk_96 (dk_at dksX3_sumIn_1 15 rfl rfl)
theorem dX3_sumIn_40 : decode cX3_sumIn 40 = .ok (.istore_n 3, 1) := dk_62 (dk_at dksX3_sumIn_1 16 rfl rfl)
theorem dX3_sumIn_41 : decode cX3_sumIn 41 = .ok (.iinc 4 1, 3) := dk_132 4 1 (dk_at dksX3_sumIn_1 17 rfl rfl)
theorem dX3_sumIn_44 : decode cX3_sumIn 44 = .ok (.goto (-39), 3) := dk_167 255 217 (dk_at dksX3_sumIn_1 20 rfl rfl)
theorem dX3_sumIn_47 : decode cX3_sumIn 47 = .ok (.iload_n 3, 1) := dk_29 (dk_at dksX3_sumIn_1 23 rfl rfl)
theorem dX3_sumIn_48 : decode cX3_sumIn 48 = .ok (.ireturn, 1) := dk_172 (dk_at dksX3_sumIn_2 0 rfl rfl)
/-- PackingDuelModel.sumIn([III)I -/
def zb162 (G : zPg) (C : zO) (args : List Value) (Q : zQ) (Y : zY) (σ : zS) : Prop := ∃ (x1 : Option Nat) (x2 : Int32) (x3 : Int32), args = [va_rf x1, .int x2, .int x3] ∧ (∃ n, zIt (fun _ _ _ => False) (fun rec4 (p1 : Int32) (p2 : Int32) (s3 : zS) => zaI s3 0 x1 (0 : Int32) (fun v11 => ((v11 ≤ p2) → Q (some (.int p1)) s3) ∧ ((¬ v11 ≤ p2) → zJ (fun (p14 : Int32) (s15 : zS) => (∀ v17 : Int32, v17 = p2 + (1 : Int32) → rec4 (p1 + p14) v17 s15)) (fun (j16 : Int32 → zS → Prop) => ((¬ ((x2 >>> (p2 &&& 31)) &&& (1 : Int32)) = (1 : Int32)) → j16 (0 : Int32) s3) ∧ ((((x2 >>> (p2 &&& 31)) &&& (1 : Int32)) = (1 : Int32)) → zaI s3 0 x1 (((11 : Int32) + ((4 : Int32) * p2)) + x3) (fun v26 => j16 v26 s3)))))) n (0 : Int32) (0 : Int32) σ)
set_option maxHeartbeats 4000000 in
theorem wk162 {l : Launch} {g : zG} {d : Nat} {C : zO} (hG : zGk g) (hC : zSound l g d C) {args : List Value} {Q : zQ} {Y : zY} {σ : zS} (hw : zb162 (zpg g) C args Q Y σ) : zMet l g (d + 1) (⟨"PackingDuelModel", "sumIn", "([III)I"⟩, Cond.code ⟨"PackingDuelModel", "sumIn", "([III)I"⟩ prog_28_method_10_code 5 (Option.some FieldType.int)) args σ Q Y := by
  obtain ⟨x1, x2, x3, rfl, hw⟩ := hw
  refine zof hG (by decide +kernel) [false, false, false] ⟨(zc_rf _), rfl, rfl, trivial⟩ (Nat.le_of_ble_eq_true rfl) (ls := [some (va_rf x1), some (.int x2), some (.int x3), none, none]) rfl ?_
  intro X hX hR hTb hd1 hd2 hl hg hnm
  subst hl
  subst hg
  have hd : zDep X d := ⟨hd1, hd2⟩
  refine z_iconst hX (v := (0 : Int32)) dX3_sumIn_0 (by decide) ?_
  refine z_istore_n hX dX3_sumIn_1 rfl (i := 3) (Nat.le_of_ble_eq_true rfl) rfl (ls2 := [some (va_rf x1), some (.int x2), some (.int x3), some (.int (0 : Int32)), none]) rfl ?_
  refine z_iconst hX (v := (0 : Int32)) dX3_sumIn_2 (by decide) ?_
  refine z_istore hX dX3_sumIn_3 (i := 4) (Nat.le_of_ble_eq_true rfl) rfl (ls2 := [some (va_rf x1), some (.int x2), some (.int x3), some (.int (0 : Int32)), some (.int (0 : Int32))]) rfl ?_
  obtain ⟨n28, hw⟩ := hw
  refine zIt_w (P := fun (j : Int32 → Int32 → zS → Prop) => ∀ (p1 : Int32) (p2 : Int32) (s3 : zS), j p1 p2 s3 → zW X s3 5 [some (va_rf x1), some (.int x2), some (.int x3), some (.int p1), some (.int p2)] []) (fun _ _ _ h => h.elim) (fun rec4 hrec4 p1 p2 s3 hw => ?_) n28 _ _ _ hw
  refine z_iload hX dX3_sumIn_5 (i := 4) rfl ?_
  refine z_aload_n hX dX3_sumIn_7 rfl (i := 0) rfl ?_
  refine z_iconst hX (v := (0 : Int32)) dX3_sumIn_8 (by decide) ?_
  obtain ⟨a5, n6, f7, r8, m9, i10, hw⟩ := hw
  refine z_iald hX dX3_sumIn_9 r8 m9 i10 ?_
  revert hw
  generalize f7 (Int32.toNatClampNeg (0 : Int32)) = v11
  intro hw
  refine z_icmp_ge hX dX3_sumIn_10 (tgt := 47) rfl (fun c13 => ?_) (fun c13 => ?_)
  · have hw := hw.1 c13
    refine z_iload_n hX dX3_sumIn_47 rfl (i := 3) rfl ?_
    exact z_ireturn hX hR dX3_sumIn_48 rfl hw
  · have hw := hw.2 c13
    refine z_iload_n hX dX3_sumIn_13 rfl (i := 3) rfl ?_
    refine z_iload_n hX dX3_sumIn_14 rfl (i := 1) rfl ?_
    refine z_iload hX dX3_sumIn_15 (i := 4) rfl ?_
    refine z_ishr hX dX3_sumIn_17 ?_
    refine z_iconst hX (v := (1 : Int32)) dX3_sumIn_18 (by decide) ?_
    refine z_iand hX dX3_sumIn_19 ?_
    refine z_iconst hX (v := (1 : Int32)) dX3_sumIn_20 (by decide) ?_
    refine zJ_w (P := fun (j : Int32 → zS → Prop) => ∀ (p14 : Int32) (s15 : zS), j p14 s15 → zW X s15 39 [some (va_rf x1), some (.int x2), some (.int x3), none, some (.int p2)] [.int p14, .int p1]) hw (fun p14 s15 hw => ?_) (fun j16 hj16 hw => ?_)
    · refine z_iadd hX dX3_sumIn_39 ?_
      refine z_istore_n hX dX3_sumIn_40 rfl (i := 3) (Nat.le_of_ble_eq_true rfl) rfl (ls2 := [some (va_rf x1), some (.int x2), some (.int x3), some (.int (p1 + p14)), some (.int p2)]) rfl ?_
      obtain ⟨v17, e18⟩ : ∃ y : Int32, y = p2 + (1 : Int32) := ⟨_, rfl⟩
      refine z_iinc hX dX3_sumIn_41 (i := 4) (v := v17) rfl (by rw [e18]; rfl) (Nat.le_of_ble_eq_true rfl) rfl (ls2 := [some (va_rf x1), some (.int x2), some (.int x3), some (.int (p1 + p14)), some (.int v17)]) rfl ?_
      have hw := hw v17 e18
      refine z_goto hX dX3_sumIn_44 (tgt := 5) rfl ?_
      exact hrec4 _ _ _ hw
    · refine z_icmp_ne hX dX3_sumIn_21 (tgt := 38) rfl (fun c19 => ?_) (fun c19 => ?_)
      · have hw := hw.1 c19
        refine z_iconst hX (v := (0 : Int32)) dX3_sumIn_38 (by decide) ?_
        refine z_sub (ls' := [some (va_rf x1), some (.int x2), some (.int x3), none, some (.int p2)]) (zsS (zsS (zsS (zsN (zsS (zs0)))))) ?_
        exact hj16 _ _ hw
      · have hw := hw.2 c19
        refine z_aload_n hX dX3_sumIn_24 rfl (i := 0) rfl ?_
        refine z_bipush hX (v := (11 : Int32)) dX3_sumIn_25 (by decide) ?_
        refine z_iconst hX (v := (4 : Int32)) dX3_sumIn_27 (by decide) ?_
        refine z_iload hX dX3_sumIn_28 (i := 4) rfl ?_
        refine z_imul hX dX3_sumIn_30 ?_
        refine z_iadd hX dX3_sumIn_31 ?_
        refine z_iload_n hX dX3_sumIn_32 rfl (i := 2) rfl ?_
        refine z_iadd hX dX3_sumIn_33 ?_
        obtain ⟨a20, n21, f22, r23, m24, i25, hw⟩ := hw
        refine z_iald hX dX3_sumIn_34 r23 m24 i25 ?_
        revert hw
        generalize f22 (Int32.toNatClampNeg (((11 : Int32) + ((4 : Int32) * p2)) + x3)) = v26
        intro hw
        refine z_goto hX dX3_sumIn_35 (tgt := 39) rfl ?_
        refine z_sub (ls' := [some (va_rf x1), some (.int x2), some (.int x3), none, some (.int p2)]) (zsS (zsS (zsS (zsN (zsS (zs0)))))) ?_
        exact hj16 _ _ hw
abbrev cX3_raise : ByteArray := prog_28_method_3_code
def yX3_raise : MethodName := ⟨RX3, "raise", "(I)I"⟩
def dkwX3_raise_0 : List UInt8 := [42, 27, 181, 0, 103, 3, 172]
abbrev dktX3_raise_0 : List UInt8 := dkwX3_raise_0 ++ []
theorem dksX3_raise_0 : cX3_raise.data.toList.drop 0 = dktX3_raise_0 := by decide +kernel
theorem dX3_raise_0 : decode cX3_raise 0 = .ok (.aload_n 0, 1) := dk_42 (dk_at dksX3_raise_0 0 rfl rfl)
theorem dX3_raise_1 : decode cX3_raise 1 = .ok (.iload_n 1, 1) := dk_27 (dk_at dksX3_raise_0 1 rfl rfl)
theorem dX3_raise_2 : decode cX3_raise 2 = .ok (.putfield 103, 3) := dk_181 0 103 (dk_at dksX3_raise_0 2 rfl rfl)
theorem dX3_raise_5 : decode cX3_raise 5 = .ok (.iconst 0, 1) := dk_3 (dk_at dksX3_raise_0 5 rfl rfl)
theorem dX3_raise_6 : decode cX3_raise 6 = .ok (.ireturn, 1) := dk_172 (dk_at dksX3_raise_0 6 rfl rfl)
/-- PackingDuelModel.raise(I)I -/
def zb163 (G : zPg) (C : zO) (args : List Value) (Q : zQ) (Y : zY) (σ : zS) : Prop := ∃ (a0 : Nat) (x1 : Int32), args = [.ref a0, .int x1] ∧ (zput σ G.1 (some a0) 4 5 (.int x1) (fun s1 => Q (some (.int (0 : Int32))) s1))
set_option maxHeartbeats 4000000 in
theorem wk163 {l : Launch} {g : zG} {d : Nat} {C : zO} (hG : zGk g) (hC : zSound l g d C) {args : List Value} {Q : zQ} {Y : zY} {σ : zS} (hw : zb163 (zpg g) C args Q Y σ) : zMet l g (d + 1) (⟨"PackingDuelModel", "raise", "(I)I"⟩, Cond.code ⟨"PackingDuelModel", "raise", "(I)I"⟩ prog_28_method_3_code 2 (Option.some FieldType.int)) args σ Q Y := by
  obtain ⟨a0, x1, rfl, hw⟩ := hw
  refine zof hG (by decide +kernel) [false, false] ⟨rfl, rfl, trivial⟩ (Nat.le_of_ble_eq_true rfl) (ls := [some (va_rf (some a0)), some (.int x1)]) rfl ?_
  intro X hX hR hTb hd1 hd2 hl hg hnm
  subst hl
  subst hg
  have hd : zDep X d := ⟨hd1, hd2⟩
  refine z_aload_n hX dX3_raise_0 rfl (i := 0) rfl ?_
  refine z_iload_n hX dX3_raise_1 rfl (i := 1) rfl ?_
  obtain ⟨a3, f4, r5, g6, m7, l8, hw⟩ := hw
  refine z_put hX zc4 (k := 5) dX3_raise_2 (Nat.le_of_ble_eq_true rfl) (zlk hX q2474) rfl rfl rfl r5 g6 m7 l8 (z_nm (fun s1 e2 => ?_))
  have hw := hw s1 e2
  refine z_iconst hX (v := (0 : Int32)) dX3_raise_5 (by decide) ?_
  exact z_ireturn hX hR dX3_raise_6 rfl hw
abbrev cX3_item : ByteArray := prog_28_method_65_code
def yX3_item : MethodName := ⟨RX3, "item", "(II)I"⟩
def dkwX3_item_1 : List UInt8 := [28, 182, 0, 168, 167, 0, 8, 42, 4, 182, 1, 33, 172]
abbrev dktX3_item_1 : List UInt8 := dkwX3_item_1 ++ []
def dkwX3_item_0 : List UInt8 := [42, 3, 181, 0, 103, 42, 27, 182, 1, 36, 153, 0, 21, 28, 3, 6, 184, 0, 109, 153, 0, 12, 42, 27]
abbrev dktX3_item_0 : List UInt8 := dkwX3_item_0 ++ dktX3_item_1
theorem dksX3_item_0 : cX3_item.data.toList.drop 0 = dktX3_item_0 := by decide +kernel
theorem dksX3_item_1 : cX3_item.data.toList.drop 24 = dktX3_item_1 := dk_seg dksX3_item_0 24 rfl rfl
theorem dX3_item_0 : decode cX3_item 0 = .ok (.aload_n 0, 1) := dk_42 (dk_at dksX3_item_0 0 rfl rfl)
theorem dX3_item_1 : decode cX3_item 1 = .ok (.iconst 0, 1) := dk_3 (dk_at dksX3_item_0 1 rfl rfl)
theorem dX3_item_2 : decode cX3_item 2 = .ok (.putfield 103, 3) := dk_181 0 103 (dk_at dksX3_item_0 2 rfl rfl)
theorem dX3_item_5 : decode cX3_item 5 = .ok (.aload_n 0, 1) := dk_42 (dk_at dksX3_item_0 5 rfl rfl)
theorem dX3_item_6 : decode cX3_item 6 = .ok (.iload_n 1, 1) := dk_27 (dk_at dksX3_item_0 6 rfl rfl)
theorem dX3_item_7 : decode cX3_item 7 = .ok (.invokevirtual 292, 3) := dk_182 1 36 (dk_at dksX3_item_0 7 rfl rfl)
theorem dX3_item_10 : decode cX3_item 10 = .ok (.ifCond .eq 21, 3) := dk_153 0 21 (dk_at dksX3_item_0 10 rfl rfl)
theorem dX3_item_13 : decode cX3_item 13 = .ok (.iload_n 2, 1) := dk_28 (dk_at dksX3_item_0 13 rfl rfl)
theorem dX3_item_14 : decode cX3_item 14 = .ok (.iconst 0, 1) := dk_3 (dk_at dksX3_item_0 14 rfl rfl)
theorem dX3_item_15 : decode cX3_item 15 = .ok (.iconst 3, 1) := dk_6 (dk_at dksX3_item_0 15 rfl rfl)
theorem dX3_item_16 : decode cX3_item 16 = .ok (.invokestatic 109, 3) := dk_184 0 109 (dk_at dksX3_item_0 16 rfl rfl)
theorem dX3_item_19 : decode cX3_item 19 = .ok (.ifCond .eq 12, 3) := dk_153 0 12 (dk_at dksX3_item_0 19 rfl rfl)
theorem dX3_item_22 : decode cX3_item 22 = .ok (.aload_n 0, 1) := dk_42 (dk_at dksX3_item_0 22 rfl rfl)
theorem dX3_item_23 : decode cX3_item 23 = .ok (.iload_n 1, 1) := dk_27 (dk_at dksX3_item_0 23 rfl rfl)
theorem dX3_item_24 : decode cX3_item 24 = .ok (.iload_n 2, 1) := dk_28 (dk_at dksX3_item_1 0 rfl rfl)
theorem dX3_item_25 : decode cX3_item 25 = .ok (.invokevirtual 168, 3) := dk_182 0 168 (dk_at dksX3_item_1 1 rfl rfl)
theorem dX3_item_28 : decode cX3_item 28 = .ok (.goto 8, 3) := dk_167 0 8 (dk_at dksX3_item_1 4 rfl rfl)
theorem dX3_item_31 : decode cX3_item 31 = .ok (.aload_n 0, 1) := dk_42 (dk_at dksX3_item_1 7 rfl rfl)
theorem dX3_item_32 : decode cX3_item 32 = .ok (.iconst 1, 1) := dk_4 (dk_at dksX3_item_1 8 rfl rfl)
theorem dX3_item_33 : decode cX3_item 33 = .ok (.invokevirtual 289, 3) := dk_182 1 33 (dk_at dksX3_item_1 9 rfl rfl)
theorem dX3_item_36 : decode cX3_item 36 = .ok (.ireturn, 1) := dk_172 (dk_at dksX3_item_1 12 rfl rfl)
/-- PackingDuelModel.item(II)I -/
def zb164 (G : zPg) (C : zO) (args : List Value) (Q : zQ) (Y : zY) (σ : zS) : Prop := ∃ (a0 : Nat) (x1 : Int32) (x2 : Int32), args = [.ref a0, .int x1, .int x2] ∧ (zput σ G.1 (some a0) 4 5 (.int (0 : Int32)) (fun s1 => zrc s1 (some a0) 4 (fun a12 => zcl C 165 [.ref a12, .int x1] Y s1 (zqI (fun v9 s10 => zJ (fun (p16 : Int32) (s17 : zS) => Q (some (.int p16)) s17) (fun (j18 : Int32 → zS → Prop) => zJ (fun  (s19 : zS) => zrc s19 (some a0) 4 (fun a24 => zcl C 163 [.ref a24, .int (1 : Int32)] Y s19 (zqI (fun v21 s22 => j18 v21 s22)))) (fun (j20 : zS → Prop) => ((v9 = 0) → j20 s10) ∧ ((¬ v9 = 0) → zcl C 166 [.int x2, .int (0 : Int32), .int (3 : Int32)] Y s10 (zqI (fun v29 s30 => ((v29 = 0) → j20 s30) ∧ ((¬ v29 = 0) → zrc s30 (some a0) 4 (fun a36 => zcl C 167 [.ref a36, .int x1, .int x2] Y s30 (zqI (fun v33 s34 => j18 v33 s34))))))))))))))
set_option maxHeartbeats 4000000 in
theorem wk164 {l : Launch} {g : zG} {d : Nat} {C : zO} (hG : zGk g) (hC : zSound l g d C) {args : List Value} {Q : zQ} {Y : zY} {σ : zS} (hw : zb164 (zpg g) C args Q Y σ) : zMet l g (d + 1) (⟨"PackingDuelModel", "item", "(II)I"⟩, Cond.code ⟨"PackingDuelModel", "item", "(II)I"⟩ prog_28_method_65_code 3 (Option.some FieldType.int)) args σ Q Y := by
  obtain ⟨a0, x1, x2, rfl, hw⟩ := hw
  refine zof hG (by decide +kernel) [false, false, false] ⟨rfl, rfl, rfl, trivial⟩ (Nat.le_of_ble_eq_true rfl) (ls := [some (va_rf (some a0)), some (.int x1), some (.int x2)]) rfl ?_
  intro X hX hR hTb hd1 hd2 hl hg hnm
  subst hl
  subst hg
  have hd : zDep X d := ⟨hd1, hd2⟩
  refine z_aload_n hX dX3_item_0 rfl (i := 0) rfl ?_
  refine z_iconst hX (v := (0 : Int32)) dX3_item_1 (by decide) ?_
  obtain ⟨a3, f4, r5, g6, m7, l8, hw⟩ := hw
  refine z_put hX zc4 (k := 5) dX3_item_2 (Nat.le_of_ble_eq_true rfl) (zlk hX q2474) rfl rfl rfl r5 g6 m7 l8 (z_nm (fun s1 e2 => ?_))
  have hw := hw s1 e2
  refine z_aload_n hX dX3_item_5 rfl (i := 0) rfl ?_
  refine z_iload_n hX dX3_item_6 rfl (i := 1) rfl ?_
  obtain ⟨a12, f13, r14, m15, hw⟩ := hw
  refine z_invV hX hd r14 (ci := 4) rfl rfl m15 dX3_item_7 (hC 165 _ zm165 _ _ _ _ hw) q2628 q2630 qs50 zh7 q2631 q136 zn165 rfl (Nat.le_of_ble_eq_true rfl) (st := []) rfl (zcs8 (Nat.le_of_ble_eq_true rfl)) rfl (zkI (fun v9 s10 hw => ?_)) (zout hX hR hTb)
  refine zJ_w (P := fun (j : Int32 → zS → Prop) => ∀ (p16 : Int32) (s17 : zS), j p16 s17 → zW X s17 36 [none, none, none] [.int p16]) hw (fun p16 s17 hw => ?_) (fun j18 hj18 hw => ?_)
  · exact z_ireturn hX hR dX3_item_36 rfl hw
  · refine zJ_w (P := fun (j : zS → Prop) => ∀  (s19 : zS), j  s19 → zW X s19 31 [some (va_rf (some a0)), none, none] []) hw (fun  s19 hw => ?_) (fun j20 hj20 hw => ?_)
    · refine z_aload_n hX dX3_item_31 rfl (i := 0) rfl ?_
      refine z_iconst hX (v := (1 : Int32)) dX3_item_32 (by decide) ?_
      obtain ⟨a24, f25, r26, m27, hw⟩ := hw
      refine z_invV hX hd r26 (ci := 4) rfl rfl m27 dX3_item_33 (hC 163 _ zm163 _ _ _ _ hw) q2620 q2622 qs49 zh7 q2623 q136 zn163 rfl (Nat.le_of_ble_eq_true rfl) (st := []) rfl (zcs8 (Nat.le_of_ble_eq_true rfl)) rfl (zkI (fun v21 s22 hw => ?_)) (zout hX hR hTb)
      refine z_sub (ls' := [none, none, none]) (zsN (zsN (zsN (zs0)))) ?_
      exact hj18 _ _ hw
    · refine z_if_eq hX dX3_item_10 (tgt := 31) rfl (fun c28 => ?_) (fun c28 => ?_)
      · have hw := hw.1 c28
        refine z_sub (ls' := [some (va_rf (some a0)), none, none]) (zsS (zsN (zsN (zs0)))) ?_
        exact hj20  _ hw
      · have hw := hw.2 c28
        refine z_iload_n hX dX3_item_13 rfl (i := 2) rfl ?_
        refine z_iconst hX (v := (0 : Int32)) dX3_item_14 (by decide) ?_
        refine z_iconst hX (v := (3 : Int32)) dX3_item_15 (by decide) ?_
        refine z_invS hX hd dX3_item_16 (hC 166 _ zm166 _ _ _ _ hw) q2632 q2633 zh7 q2634 q136 zn166 rfl (Nat.le_of_ble_eq_true rfl) (st := []) rfl (zcs8 (Nat.le_of_ble_eq_true rfl)) rfl (zkI (fun v29 s30 hw => ?_)) (zout hX hR hTb)
        refine z_if_eq hX dX3_item_19 (tgt := 31) rfl (fun c32 => ?_) (fun c32 => ?_)
        · have hw := hw.1 c32
          refine z_sub (ls' := [some (va_rf (some a0)), none, none]) (zsS (zsN (zsN (zs0)))) ?_
          exact hj20  _ hw
        · have hw := hw.2 c32
          refine z_aload_n hX dX3_item_22 rfl (i := 0) rfl ?_
          refine z_iload_n hX dX3_item_23 rfl (i := 1) rfl ?_
          refine z_iload_n hX dX3_item_24 rfl (i := 2) rfl ?_
          obtain ⟨a36, f37, r38, m39, hw⟩ := hw
          refine z_invV hX hd r38 (ci := 4) rfl rfl m39 dX3_item_25 (hC 167 _ zm167 _ _ _ _ hw) q2635 q2637 qs51 zh7 q2638 q136 zn167 rfl (Nat.le_of_ble_eq_true rfl) (st := []) rfl (zcs8 (Nat.le_of_ble_eq_true rfl)) rfl (zkI (fun v33 s34 hw => ?_)) (zout hX hR hTb)
          refine z_goto hX dX3_item_28 (tgt := 36) rfl ?_
          refine z_sub (ls' := [none, none, none]) (zsN (zsN (zsN (zs0)))) ?_
          exact hj18 _ _ hw
abbrev cX3_isItem : ByteArray := prog_28_method_8_code
def yX3_isItem : MethodName := ⟨RX3, "isItem", "(I)Z"⟩
def dkwX3_isItem_0 : List UInt8 := [27, 3, 42, 182, 0, 106, 4, 100, 184, 0, 109, 172]
abbrev dktX3_isItem_0 : List UInt8 := dkwX3_isItem_0 ++ []
theorem dksX3_isItem_0 : cX3_isItem.data.toList.drop 0 = dktX3_isItem_0 := by decide +kernel
theorem dX3_isItem_0 : decode cX3_isItem 0 = .ok (.iload_n 1, 1) := dk_27 (dk_at dksX3_isItem_0 0 rfl rfl)
theorem dX3_isItem_1 : decode cX3_isItem 1 = .ok (.iconst 0, 1) := dk_3 (dk_at dksX3_isItem_0 1 rfl rfl)
theorem dX3_isItem_2 : decode cX3_isItem 2 = .ok (.aload_n 0, 1) := dk_42 (dk_at dksX3_isItem_0 2 rfl rfl)
theorem dX3_isItem_3 : decode cX3_isItem 3 = .ok (.invokevirtual 106, 3) := dk_182 0 106 (dk_at dksX3_isItem_0 3 rfl rfl)
theorem dX3_isItem_6 : decode cX3_isItem 6 = .ok (.iconst 1, 1) := dk_4 (dk_at dksX3_isItem_0 6 rfl rfl)
theorem dX3_isItem_7 : decode cX3_isItem 7 = .ok (.isub, 1) := dk_100 (dk_at dksX3_isItem_0 7 rfl rfl)
theorem dX3_isItem_8 : decode cX3_isItem 8 = .ok (.invokestatic 109, 3) := dk_184 0 109 (dk_at dksX3_isItem_0 8 rfl rfl)
theorem dX3_isItem_11 : decode cX3_isItem 11 = .ok (.ireturn, 1) := dk_172 (dk_at dksX3_isItem_0 11 rfl rfl)
/-- PackingDuelModel.isItem(I)Z -/
def zb165 (G : zPg) (C : zO) (args : List Value) (Q : zQ) (Y : zY) (σ : zS) : Prop := ∃ (a0 : Nat) (x1 : Int32), args = [.ref a0, .int x1] ∧ (zrc σ (some a0) 4 (fun a4 => zcl C 159 [.ref a4] Y σ (zqI (fun v1 s2 => zcl C 166 [.int x1, .int (0 : Int32), .int (v1 - (1 : Int32))] Y s2 (zqI (fun v8 s9 => zbool v8 ∧ Q (some (.int v8)) s9))))))
set_option maxHeartbeats 4000000 in
theorem wk165 {l : Launch} {g : zG} {d : Nat} {C : zO} (hG : zGk g) (hC : zSound l g d C) {args : List Value} {Q : zQ} {Y : zY} {σ : zS} (hw : zb165 (zpg g) C args Q Y σ) : zMet l g (d + 1) (⟨"PackingDuelModel", "isItem", "(I)Z"⟩, Cond.code ⟨"PackingDuelModel", "isItem", "(I)Z"⟩ prog_28_method_8_code 2 (Option.some FieldType.boolean)) args σ Q Y := by
  obtain ⟨a0, x1, rfl, hw⟩ := hw
  refine zof hG (by decide +kernel) [false, false] ⟨rfl, rfl, trivial⟩ (Nat.le_of_ble_eq_true rfl) (ls := [some (va_rf (some a0)), some (.int x1)]) rfl ?_
  intro X hX hR hTb hd1 hd2 hl hg hnm
  subst hl
  subst hg
  have hd : zDep X d := ⟨hd1, hd2⟩
  refine z_iload_n hX dX3_isItem_0 rfl (i := 1) rfl ?_
  refine z_iconst hX (v := (0 : Int32)) dX3_isItem_1 (by decide) ?_
  refine z_aload_n hX dX3_isItem_2 rfl (i := 0) rfl ?_
  obtain ⟨a4, f5, r6, m7, hw⟩ := hw
  refine z_invV hX hd r6 (ci := 4) rfl rfl m7 dX3_isItem_3 (hC 159 _ zm159 _ _ _ _ hw) q2605 q2607 qs46 zh7 q2608 q136 zn159 rfl (Nat.le_of_ble_eq_true rfl) (st := [.int (0 : Int32), .int x1]) rfl (zcs8 (Nat.le_of_ble_eq_true rfl)) rfl (zkI (fun v1 s2 hw => ?_)) (zout hX hR hTb)
  refine z_iconst hX (v := (1 : Int32)) dX3_isItem_6 (by decide) ?_
  refine z_isub hX dX3_isItem_7 ?_
  refine z_invS hX hd dX3_isItem_8 (hC 166 _ zm166 _ _ _ _ hw) q2632 q2633 zh7 q2634 q136 zn166 rfl (Nat.le_of_ble_eq_true rfl) (st := []) rfl (zcs8 (Nat.le_of_ble_eq_true rfl)) rfl (zkI (fun v8 s9 hw => ?_)) (zout hX hR hTb)
  exact z_ireturn hX hR dX3_isItem_11 (zn_z hw.1) hw.2
abbrev cX3_inRange : ByteArray := prog_28_method_4_code
def yX3_inRange : MethodName := ⟨RX3, "inRange", "(III)Z"⟩
def dkwX3_inRange_0 : List UInt8 := [26, 27, 161, 0, 12, 26, 28, 163, 0, 7, 4, 167, 0, 4, 3, 172]
abbrev dktX3_inRange_0 : List UInt8 := dkwX3_inRange_0 ++ []
theorem dksX3_inRange_0 : cX3_inRange.data.toList.drop 0 = dktX3_inRange_0 := by decide +kernel
theorem dX3_inRange_0 : decode cX3_inRange 0 = .ok (.iload_n 0, 1) := dk_26 (dk_at dksX3_inRange_0 0 rfl rfl)
theorem dX3_inRange_1 : decode cX3_inRange 1 = .ok (.iload_n 1, 1) := dk_27 (dk_at dksX3_inRange_0 1 rfl rfl)
theorem dX3_inRange_2 : decode cX3_inRange 2 = .ok (.if_icmp .lt 12, 3) := dk_161 0 12 (dk_at dksX3_inRange_0 2 rfl rfl)
theorem dX3_inRange_5 : decode cX3_inRange 5 = .ok (.iload_n 0, 1) := dk_26 (dk_at dksX3_inRange_0 5 rfl rfl)
theorem dX3_inRange_6 : decode cX3_inRange 6 = .ok (.iload_n 2, 1) := dk_28 (dk_at dksX3_inRange_0 6 rfl rfl)
theorem dX3_inRange_7 : decode cX3_inRange 7 = .ok (.if_icmp .gt 7, 3) := dk_163 0 7 (dk_at dksX3_inRange_0 7 rfl rfl)
theorem dX3_inRange_10 : decode cX3_inRange 10 = .ok (.iconst 1, 1) := dk_4 (dk_at dksX3_inRange_0 10 rfl rfl)
theorem dX3_inRange_11 : decode cX3_inRange 11 = .ok (.goto 4, 3) := dk_167 0 4 (dk_at dksX3_inRange_0 11 rfl rfl)
theorem dX3_inRange_14 : decode cX3_inRange 14 = .ok (.iconst 0, 1) := dk_3 (dk_at dksX3_inRange_0 14 rfl rfl)
theorem dX3_inRange_15 : decode cX3_inRange 15 = .ok (.ireturn, 1) := dk_172 (dk_at dksX3_inRange_0 15 rfl rfl)
/-- PackingDuelModel.inRange(III)Z -/
def zb166 (G : zPg) (C : zO) (args : List Value) (Q : zQ) (Y : zY) (σ : zS) : Prop := ∃ (x1 : Int32) (x2 : Int32) (x3 : Int32), args = [.int x1, .int x2, .int x3] ∧ (zJ (fun (p1 : Int32) (s2 : zS) => zbool p1 ∧ Q (some (.int p1)) s2) (fun (j3 : Int32 → zS → Prop) => zJ (fun  (s4 : zS) => j3 (0 : Int32) s4) (fun (j5 : zS → Prop) => ((x1 < x2) → j5 σ) ∧ ((¬ x1 < x2) → ((x3 < x1) → j5 σ) ∧ ((¬ x3 < x1) → j3 (1 : Int32) σ)))))
set_option maxHeartbeats 4000000 in
theorem wk166 {l : Launch} {g : zG} {d : Nat} {C : zO} (hG : zGk g) (hC : zSound l g d C) {args : List Value} {Q : zQ} {Y : zY} {σ : zS} (hw : zb166 (zpg g) C args Q Y σ) : zMet l g (d + 1) (⟨"PackingDuelModel", "inRange", "(III)Z"⟩, Cond.code ⟨"PackingDuelModel", "inRange", "(III)Z"⟩ prog_28_method_4_code 3 (Option.some FieldType.boolean)) args σ Q Y := by
  obtain ⟨x1, x2, x3, rfl, hw⟩ := hw
  refine zof hG (by decide +kernel) [false, false, false] ⟨rfl, rfl, rfl, trivial⟩ (Nat.le_of_ble_eq_true rfl) (ls := [some (.int x1), some (.int x2), some (.int x3)]) rfl ?_
  intro X hX hR hTb hd1 hd2 hl hg hnm
  subst hl
  subst hg
  have hd : zDep X d := ⟨hd1, hd2⟩
  refine z_iload_n hX dX3_inRange_0 rfl (i := 0) rfl ?_
  refine z_iload_n hX dX3_inRange_1 rfl (i := 1) rfl ?_
  refine zJ_w (P := fun (j : Int32 → zS → Prop) => ∀ (p1 : Int32) (s2 : zS), j p1 s2 → zW X s2 15 [none, none, none] [.int p1]) hw (fun p1 s2 hw => ?_) (fun j3 hj3 hw => ?_)
  · exact z_ireturn hX hR dX3_inRange_15 (zn_z hw.1) hw.2
  · refine zJ_w (P := fun (j : zS → Prop) => ∀  (s4 : zS), j  s4 → zW X s4 14 [none, none, none] []) hw (fun  s4 hw => ?_) (fun j5 hj5 hw => ?_)
    · refine z_iconst hX (v := (0 : Int32)) dX3_inRange_14 (by decide) ?_
      exact hj3 _ _ hw
    · refine z_icmp_lt hX dX3_inRange_2 (tgt := 14) rfl (fun c6 => ?_) (fun c6 => ?_)
      · have hw := hw.1 c6
        refine z_sub (ls' := [none, none, none]) (zsN (zsN (zsN (zs0)))) ?_
        exact hj5  _ hw
      · have hw := hw.2 c6
        refine z_iload_n hX dX3_inRange_5 rfl (i := 0) rfl ?_
        refine z_iload_n hX dX3_inRange_6 rfl (i := 2) rfl ?_
        refine z_icmp_gt hX dX3_inRange_7 (tgt := 14) rfl (fun c7 => ?_) (fun c7 => ?_)
        · have hw := hw.1 c7
          refine z_sub (ls' := [none, none, none]) (zsN (zsN (zsN (zs0)))) ?_
          exact hj5  _ hw
        · have hw := hw.2 c7
          refine z_iconst hX (v := (1 : Int32)) dX3_inRange_10 (by decide) ?_
          refine z_goto hX dX3_inRange_11 (tgt := 15) rfl ?_
          refine z_sub (ls' := [none, none, none]) (zsN (zsN (zsN (zs0)))) ?_
          exact hj3 _ _ hw
abbrev cX3_of : ByteArray := prog_28_method_7_code
def yX3_of : MethodName := ⟨RX3, "of", "(II)I"⟩
def dkwX3_of_0 : List UInt8 := [42, 180, 0, 9, 16, 11, 7, 27, 104, 96, 28, 96, 46, 172]
abbrev dktX3_of_0 : List UInt8 := dkwX3_of_0 ++ []
theorem dksX3_of_0 : cX3_of.data.toList.drop 0 = dktX3_of_0 := by decide +kernel
theorem dX3_of_0 : decode cX3_of 0 = .ok (.aload_n 0, 1) := dk_42 (dk_at dksX3_of_0 0 rfl rfl)
theorem dX3_of_1 : decode cX3_of 1 = .ok (.getfield 9, 3) := dk_180 0 9 (dk_at dksX3_of_0 1 rfl rfl)
theorem dX3_of_4 : decode cX3_of 4 = .ok (.bipush 11, 2) := dk_16 11 (dk_at dksX3_of_0 4 rfl rfl)
theorem dX3_of_6 : decode cX3_of 6 = .ok (.iconst 4, 1) := dk_7 (dk_at dksX3_of_0 6 rfl rfl)
theorem dX3_of_7 : decode cX3_of 7 = .ok (.iload_n 1, 1) := dk_27 (dk_at dksX3_of_0 7 rfl rfl)
theorem dX3_of_8 : decode cX3_of 8 = .ok (.imul, 1) := dk_104 (dk_at dksX3_of_0 8 rfl rfl)
theorem dX3_of_9 : decode cX3_of 9 = .ok (.iadd, 1) := dk_96 (dk_at dksX3_of_0 9 rfl rfl)
theorem dX3_of_10 : decode cX3_of 10 = .ok (.iload_n 2, 1) := dk_28 (dk_at dksX3_of_0 10 rfl rfl)
theorem dX3_of_11 : decode cX3_of 11 = .ok (.iadd, 1) := dk_96 (dk_at dksX3_of_0 11 rfl rfl)
theorem dX3_of_12 : decode cX3_of 12 = .ok (.iaload, 1) := dk_46 (dk_at dksX3_of_0 12 rfl rfl)
theorem dX3_of_13 : decode cX3_of 13 = .ok (.ireturn, 1) := dk_172 (dk_at dksX3_of_0 13 rfl rfl)
/-- PackingDuelModel.of(II)I -/
def zb167 (G : zPg) (C : zO) (args : List Value) (Q : zQ) (Y : zY) (σ : zS) : Prop := ∃ (a0 : Nat) (x1 : Int32) (x2 : Int32), args = [.ref a0, .int x1, .int x2] ∧ (zgR σ (some a0) 4 0 (fun v1 => zaI σ 0 v1 (((11 : Int32) + ((4 : Int32) * x1)) + x2) (fun v13 => Q (some (.int v13)) σ)))
set_option maxHeartbeats 4000000 in
theorem wk167 {l : Launch} {g : zG} {d : Nat} {C : zO} (hG : zGk g) (hC : zSound l g d C) {args : List Value} {Q : zQ} {Y : zY} {σ : zS} (hw : zb167 (zpg g) C args Q Y σ) : zMet l g (d + 1) (⟨"PackingDuelModel", "of", "(II)I"⟩, Cond.code ⟨"PackingDuelModel", "of", "(II)I"⟩ prog_28_method_7_code 3 (Option.some FieldType.int)) args σ Q Y := by
  obtain ⟨a0, x1, x2, rfl, hw⟩ := hw
  refine zof hG (by decide +kernel) [false, false, false] ⟨rfl, rfl, rfl, trivial⟩ (Nat.le_of_ble_eq_true rfl) (ls := [some (va_rf (some a0)), some (.int x1), some (.int x2)]) rfl ?_
  intro X hX hR hTb hd1 hd2 hl hg hnm
  subst hl
  subst hg
  have hd : zDep X d := ⟨hd1, hd2⟩
  refine z_aload_n hX dX3_of_0 rfl (i := 0) rfl ?_
  obtain ⟨a2, f3, v1, r4, m5, e6, hw⟩ := hw
  refine z_get hX zc4 (k := 0) dX3_of_1 (Nat.le_of_ble_eq_true rfl) (zlk hX q2469) r4 m5 e6 ?_
  refine z_bipush hX (v := (11 : Int32)) dX3_of_4 (by decide) ?_
  refine z_iconst hX (v := (4 : Int32)) dX3_of_6 (by decide) ?_
  refine z_iload_n hX dX3_of_7 rfl (i := 1) rfl ?_
  refine z_imul hX dX3_of_8 ?_
  refine z_iadd hX dX3_of_9 ?_
  refine z_iload_n hX dX3_of_10 rfl (i := 2) rfl ?_
  refine z_iadd hX dX3_of_11 ?_
  obtain ⟨a7, n8, f9, r10, m11, i12, hw⟩ := hw
  refine z_iald hX dX3_of_12 r10 m11 i12 ?_
  revert hw
  generalize f9 (Int32.toNatClampNeg (((11 : Int32) + ((4 : Int32) * x1)) + x2)) = v13
  intro hw
  exact z_ireturn hX hR dX3_of_13 rfl hw
abbrev cX3_sumOf : ByteArray := prog_28_method_66_code
def yX3_sumOf : MethodName := ⟨RX3, "sumOf", "(II)I"⟩
def dkwX3_sumOf_2 : List UInt8 := [172]
abbrev dktX3_sumOf_2 : List UInt8 := dkwX3_sumOf_2 ++ []
def dkwX3_sumOf_1 : List UInt8 := [167, 0, 4, 5, 181, 0, 103, 42, 180, 0, 103, 154, 0, 12, 42, 27, 28, 182, 0, 117, 167, 0, 4, 3]
abbrev dktX3_sumOf_1 : List UInt8 := dkwX3_sumOf_1 ++ dktX3_sumOf_2
def dkwX3_sumOf_0 : List UInt8 := [42, 28, 3, 6, 184, 0, 109, 154, 0, 7, 4, 167, 0, 16, 42, 27, 182, 0, 121, 153, 0, 7, 3]
abbrev dktX3_sumOf_0 : List UInt8 := dkwX3_sumOf_0 ++ dktX3_sumOf_1
theorem dksX3_sumOf_0 : cX3_sumOf.data.toList.drop 0 = dktX3_sumOf_0 := by decide +kernel
theorem dksX3_sumOf_1 : cX3_sumOf.data.toList.drop 23 = dktX3_sumOf_1 := dk_seg dksX3_sumOf_0 23 rfl rfl
theorem dksX3_sumOf_2 : cX3_sumOf.data.toList.drop 47 = dktX3_sumOf_2 := dk_seg dksX3_sumOf_1 24 rfl rfl
theorem dX3_sumOf_0 : decode cX3_sumOf 0 = .ok (.aload_n 0, 1) := dk_42 (dk_at dksX3_sumOf_0 0 rfl rfl)
theorem dX3_sumOf_1 : decode cX3_sumOf 1 = .ok (.iload_n 2, 1) := dk_28 (dk_at dksX3_sumOf_0 1 rfl rfl)
theorem dX3_sumOf_2 : decode cX3_sumOf 2 = .ok (.iconst 0, 1) := dk_3 (dk_at dksX3_sumOf_0 2 rfl rfl)
theorem dX3_sumOf_3 : decode cX3_sumOf 3 = .ok (.iconst 3, 1) := dk_6 (dk_at dksX3_sumOf_0 3 rfl rfl)
theorem dX3_sumOf_4 : decode cX3_sumOf 4 = .ok (.invokestatic 109, 3) := dk_184 0 109 (dk_at dksX3_sumOf_0 4 rfl rfl)
theorem dX3_sumOf_7 : decode cX3_sumOf 7 = .ok (.ifCond .ne 7, 3) := dk_154 0 7 (dk_at dksX3_sumOf_0 7 rfl rfl)
theorem dX3_sumOf_10 : decode cX3_sumOf 10 = .ok (.iconst 1, 1) := dk_4 (dk_at dksX3_sumOf_0 10 rfl rfl)
theorem dX3_sumOf_11 : decode cX3_sumOf 11 = .ok (.goto 16, 3) := dk_167 0 16 (dk_at dksX3_sumOf_0 11 rfl rfl)
theorem dX3_sumOf_14 : decode cX3_sumOf 14 = .ok (.aload_n 0, 1) := dk_42 (dk_at dksX3_sumOf_0 14 rfl rfl)
theorem dX3_sumOf_15 : decode cX3_sumOf 15 = .ok (.iload_n 1, 1) := dk_27 (dk_at dksX3_sumOf_0 15 rfl rfl)
theorem dX3_sumOf_16 : decode cX3_sumOf 16 = .ok (.invokevirtual 121, 3) := dk_182 0 121 (dk_at dksX3_sumOf_0 16 rfl rfl)
theorem dX3_sumOf_19 : decode cX3_sumOf 19 = .ok (.ifCond .eq 7, 3) := dk_153 0 7 (dk_at dksX3_sumOf_0 19 rfl rfl)
theorem dX3_sumOf_22 : decode cX3_sumOf 22 = .ok (.iconst 0, 1) := dk_3 (dk_at dksX3_sumOf_0 22 rfl rfl)
theorem dX3_sumOf_23 : decode cX3_sumOf 23 = .ok (.goto 4, 3) := dk_167 0 4 (dk_at dksX3_sumOf_1 0 rfl rfl)
theorem dX3_sumOf_26 : decode cX3_sumOf 26 = .ok (.iconst 2, 1) := dk_5 (dk_at dksX3_sumOf_1 3 rfl rfl)
theorem dX3_sumOf_27 : decode cX3_sumOf 27 = .ok (.putfield 103, 3) := dk_181 0 103 (dk_at dksX3_sumOf_1 4 rfl rfl)
theorem dX3_sumOf_30 : decode cX3_sumOf 30 = .ok (.aload_n 0, 1) := dk_42 (dk_at dksX3_sumOf_1 7 rfl rfl)
theorem dX3_sumOf_31 : decode cX3_sumOf 31 = .ok (.getfield 103, 3) := dk_180 0 103 (dk_at dksX3_sumOf_1 8 rfl rfl)
theorem dX3_sumOf_34 : decode cX3_sumOf 34 = .ok (.ifCond .ne 12, 3) := dk_154 0 12 (dk_at dksX3_sumOf_1 11 rfl rfl)
theorem dX3_sumOf_37 : decode cX3_sumOf 37 = .ok (.aload_n 0, 1) := dk_42 (dk_at dksX3_sumOf_1 14 rfl rfl)
theorem dX3_sumOf_38 : decode cX3_sumOf 38 = .ok (.iload_n 1, 1) := dk_27 (dk_at dksX3_sumOf_1 15 rfl rfl)
theorem dX3_sumOf_39 : decode cX3_sumOf 39 = .ok (.iload_n 2, 1) := dk_28 (dk_at dksX3_sumOf_1 16 rfl rfl)
theorem dX3_sumOf_40 : decode cX3_sumOf 40 = .ok (.invokevirtual 117, 3) := dk_182 0 117 (dk_at dksX3_sumOf_1 17 rfl rfl)
theorem dX3_sumOf_43 : decode cX3_sumOf 43 = .ok (.goto 4, 3) := dk_167 0 4 (dk_at dksX3_sumOf_1 20 rfl rfl)
theorem dX3_sumOf_46 : decode cX3_sumOf 46 = .ok (.iconst 0, 1) := dk_3 (dk_at dksX3_sumOf_1 23 rfl rfl)
theorem dX3_sumOf_47 : decode cX3_sumOf 47 = .ok (.ireturn, 1) := dk_172 (dk_at dksX3_sumOf_2 0 rfl rfl)
/-- PackingDuelModel.sumOf(II)I -/
def zb168 (G : zPg) (C : zO) (args : List Value) (Q : zQ) (Y : zY) (σ : zS) : Prop := ∃ (a0 : Nat) (x1 : Int32) (x2 : Int32), args = [.ref a0, .int x1, .int x2] ∧ (zcl C 166 [.int x2, .int (0 : Int32), .int (3 : Int32)] Y σ (zqI (fun v1 s2 => zJ (fun (p4 : Int32) (s5 : zS) => zput s5 G.1 (some a0) 4 5 (.int p4) (fun s7 => zgI s7 (some a0) 4 5 (fun v15 => zJ (fun (p21 : Int32) (s22 : zS) => Q (some (.int p21)) s22) (fun (j23 : Int32 → zS → Prop) => ((¬ v15 = 0) → j23 (0 : Int32) s7) ∧ ((v15 = 0) → zrc s7 (some a0) 4 (fun a28 => zcl C 161 [.ref a28, .int x1, .int x2] Y s7 (zqI (fun v25 s26 => j23 v25 s26)))))))) (fun (j6 : Int32 → zS → Prop) => ((¬ v1 = 0) → zrc s2 (some a0) 4 (fun a36 => zcl C 169 [.ref a36, .int x1] Y s2 (zqI (fun v33 s34 => ((v33 = 0) → j6 (2 : Int32) s34) ∧ ((¬ v33 = 0) → j6 (0 : Int32) s34))))) ∧ ((v1 = 0) → j6 (1 : Int32) s2)))))
set_option maxHeartbeats 4000000 in
theorem wk168 {l : Launch} {g : zG} {d : Nat} {C : zO} (hG : zGk g) (hC : zSound l g d C) {args : List Value} {Q : zQ} {Y : zY} {σ : zS} (hw : zb168 (zpg g) C args Q Y σ) : zMet l g (d + 1) (⟨"PackingDuelModel", "sumOf", "(II)I"⟩, Cond.code ⟨"PackingDuelModel", "sumOf", "(II)I"⟩ prog_28_method_66_code 3 (Option.some FieldType.int)) args σ Q Y := by
  obtain ⟨a0, x1, x2, rfl, hw⟩ := hw
  refine zof hG (by decide +kernel) [false, false, false] ⟨rfl, rfl, rfl, trivial⟩ (Nat.le_of_ble_eq_true rfl) (ls := [some (va_rf (some a0)), some (.int x1), some (.int x2)]) rfl ?_
  intro X hX hR hTb hd1 hd2 hl hg hnm
  subst hl
  subst hg
  have hd : zDep X d := ⟨hd1, hd2⟩
  refine z_aload_n hX dX3_sumOf_0 rfl (i := 0) rfl ?_
  refine z_iload_n hX dX3_sumOf_1 rfl (i := 2) rfl ?_
  refine z_iconst hX (v := (0 : Int32)) dX3_sumOf_2 (by decide) ?_
  refine z_iconst hX (v := (3 : Int32)) dX3_sumOf_3 (by decide) ?_
  refine z_invS hX hd dX3_sumOf_4 (hC 166 _ zm166 _ _ _ _ hw) q2632 q2633 zh7 q2634 q136 zn166 rfl (Nat.le_of_ble_eq_true rfl) (st := [va_rf (some a0)]) rfl (zcs8 (Nat.le_of_ble_eq_true rfl)) rfl (zkI (fun v1 s2 hw => ?_)) (zout hX hR hTb)
  refine zJ_w (P := fun (j : Int32 → zS → Prop) => ∀ (p4 : Int32) (s5 : zS), j p4 s5 → zW X s5 27 [some (va_rf (some a0)), some (.int x1), some (.int x2)] [.int p4, va_rf (some a0)]) hw (fun p4 s5 hw => ?_) (fun j6 hj6 hw => ?_)
  · obtain ⟨a9, f10, r11, g12, m13, l14, hw⟩ := hw
    refine z_put hX zc4 (k := 5) dX3_sumOf_27 (Nat.le_of_ble_eq_true rfl) (zlk hX q2474) rfl rfl rfl r11 g12 m13 l14 (z_nm (fun s7 e8 => ?_))
    have hw := hw s7 e8
    refine z_aload_n hX dX3_sumOf_30 rfl (i := 0) rfl ?_
    obtain ⟨a16, f17, v15, r18, m19, e20, hw⟩ := hw
    refine z_get hX zc4 (k := 5) dX3_sumOf_31 (Nat.le_of_ble_eq_true rfl) (zlk hX q2474) r18 m19 e20 ?_
    refine zJ_w (P := fun (j : Int32 → zS → Prop) => ∀ (p21 : Int32) (s22 : zS), j p21 s22 → zW X s22 47 [none, none, none] [.int p21]) hw (fun p21 s22 hw => ?_) (fun j23 hj23 hw => ?_)
    · exact z_ireturn hX hR dX3_sumOf_47 rfl hw
    · refine z_if_ne hX dX3_sumOf_34 (tgt := 46) rfl (fun c24 => ?_) (fun c24 => ?_)
      · have hw := hw.1 c24
        refine z_iconst hX (v := (0 : Int32)) dX3_sumOf_46 (by decide) ?_
        refine z_sub (ls' := [none, none, none]) (zsN (zsN (zsN (zs0)))) ?_
        exact hj23 _ _ hw
      · have hw := hw.2 c24
        refine z_aload_n hX dX3_sumOf_37 rfl (i := 0) rfl ?_
        refine z_iload_n hX dX3_sumOf_38 rfl (i := 1) rfl ?_
        refine z_iload_n hX dX3_sumOf_39 rfl (i := 2) rfl ?_
        obtain ⟨a28, f29, r30, m31, hw⟩ := hw
        refine z_invV hX hd r30 (ci := 4) rfl rfl m31 dX3_sumOf_40 (hC 161 _ zm161 _ _ _ _ hw) q2613 q2615 qs48 zh7 q2616 q136 zn161 rfl (Nat.le_of_ble_eq_true rfl) (st := []) rfl (zcs8 (Nat.le_of_ble_eq_true rfl)) rfl (zkI (fun v25 s26 hw => ?_)) (zout hX hR hTb)
        refine z_goto hX dX3_sumOf_43 (tgt := 47) rfl ?_
        refine z_sub (ls' := [none, none, none]) (zsN (zsN (zsN (zs0)))) ?_
        exact hj23 _ _ hw
  · refine z_if_ne hX dX3_sumOf_7 (tgt := 14) rfl (fun c32 => ?_) (fun c32 => ?_)
    · have hw := hw.1 c32
      refine z_aload_n hX dX3_sumOf_14 rfl (i := 0) rfl ?_
      refine z_iload_n hX dX3_sumOf_15 rfl (i := 1) rfl ?_
      obtain ⟨a36, f37, r38, m39, hw⟩ := hw
      refine z_invV hX hd r38 (ci := 4) rfl rfl m39 dX3_sumOf_16 (hC 169 _ zm169 _ _ _ _ hw) q2643 q2645 qs52 zh7 q2646 q136 zn169 rfl (Nat.le_of_ble_eq_true rfl) (st := [va_rf (some a0)]) rfl (zcs8 (Nat.le_of_ble_eq_true rfl)) rfl (zkI (fun v33 s34 hw => ?_)) (zout hX hR hTb)
      refine z_if_eq hX dX3_sumOf_19 (tgt := 26) rfl (fun c40 => ?_) (fun c40 => ?_)
      · have hw := hw.1 c40
        refine z_iconst hX (v := (2 : Int32)) dX3_sumOf_26 (by decide) ?_
        exact hj6 _ _ hw
      · have hw := hw.2 c40
        refine z_iconst hX (v := (0 : Int32)) dX3_sumOf_22 (by decide) ?_
        refine z_goto hX dX3_sumOf_23 (tgt := 27) rfl ?_
        exact hj6 _ _ hw
    · have hw := hw.2 c32
      refine z_iconst hX (v := (1 : Int32)) dX3_sumOf_10 (by decide) ?_
      refine z_goto hX dX3_sumOf_11 (tgt := 27) rfl ?_
      exact hj6 _ _ hw
abbrev cX3_isSet : ByteArray := prog_28_method_9_code
def yX3_isSet : MethodName := ⟨RX3, "isSet", "(I)Z"⟩
def dkwX3_isSet_0 : List UInt8 := [27, 155, 0, 16, 27, 42, 182, 0, 106, 122, 154, 0, 7, 4, 167, 0, 4, 3, 172]
abbrev dktX3_isSet_0 : List UInt8 := dkwX3_isSet_0 ++ []
theorem dksX3_isSet_0 : cX3_isSet.data.toList.drop 0 = dktX3_isSet_0 := by decide +kernel
theorem dX3_isSet_0 : decode cX3_isSet 0 = .ok (.iload_n 1, 1) := dk_27 (dk_at dksX3_isSet_0 0 rfl rfl)
theorem dX3_isSet_1 : decode cX3_isSet 1 = .ok (.ifCond .lt 16, 3) := dk_155 0 16 (dk_at dksX3_isSet_0 1 rfl rfl)
theorem dX3_isSet_4 : decode cX3_isSet 4 = .ok (.iload_n 1, 1) := dk_27 (dk_at dksX3_isSet_0 4 rfl rfl)
theorem dX3_isSet_5 : decode cX3_isSet 5 = .ok (.aload_n 0, 1) := dk_42 (dk_at dksX3_isSet_0 5 rfl rfl)
theorem dX3_isSet_6 : decode cX3_isSet 6 = .ok (.invokevirtual 106, 3) := dk_182 0 106 (dk_at dksX3_isSet_0 6 rfl rfl)
theorem dX3_isSet_9 : decode cX3_isSet 9 = .ok (.ishr, 1) := dk_122 (dk_at dksX3_isSet_0 9 rfl rfl)
theorem dX3_isSet_10 : decode cX3_isSet 10 = .ok (.ifCond .ne 7, 3) := dk_154 0 7 (dk_at dksX3_isSet_0 10 rfl rfl)
theorem dX3_isSet_13 : decode cX3_isSet 13 = .ok (.iconst 1, 1) := dk_4 (dk_at dksX3_isSet_0 13 rfl rfl)
theorem dX3_isSet_14 : decode cX3_isSet 14 = .ok (.goto 4, 3) := dk_167 0 4 (dk_at dksX3_isSet_0 14 rfl rfl)
theorem dX3_isSet_17 : decode cX3_isSet 17 = .ok (.iconst 0, 1) := dk_3 (dk_at dksX3_isSet_0 17 rfl rfl)
theorem dX3_isSet_18 : decode cX3_isSet 18 = .ok (.ireturn, 1) := dk_172 (dk_at dksX3_isSet_0 18 rfl rfl)
/-- PackingDuelModel.isSet(I)Z -/
def zb169 (G : zPg) (C : zO) (args : List Value) (Q : zQ) (Y : zY) (σ : zS) : Prop := ∃ (a0 : Nat) (x1 : Int32), args = [.ref a0, .int x1] ∧ (zJ (fun (p1 : Int32) (s2 : zS) => zbool p1 ∧ Q (some (.int p1)) s2) (fun (j3 : Int32 → zS → Prop) => zJ (fun  (s4 : zS) => j3 (0 : Int32) s4) (fun (j5 : zS → Prop) => ((x1 < 0) → j5 σ) ∧ ((¬ x1 < 0) → zrc σ (some a0) 4 (fun a10 => zcl C 159 [.ref a10] Y σ (zqI (fun v7 s8 => ((¬ (x1 >>> (v7 &&& 31)) = 0) → j5 s8) ∧ (((x1 >>> (v7 &&& 31)) = 0) → j3 (1 : Int32) s8))))))))
set_option maxHeartbeats 4000000 in
theorem wk169 {l : Launch} {g : zG} {d : Nat} {C : zO} (hG : zGk g) (hC : zSound l g d C) {args : List Value} {Q : zQ} {Y : zY} {σ : zS} (hw : zb169 (zpg g) C args Q Y σ) : zMet l g (d + 1) (⟨"PackingDuelModel", "isSet", "(I)Z"⟩, Cond.code ⟨"PackingDuelModel", "isSet", "(I)Z"⟩ prog_28_method_9_code 2 (Option.some FieldType.boolean)) args σ Q Y := by
  obtain ⟨a0, x1, rfl, hw⟩ := hw
  refine zof hG (by decide +kernel) [false, false] ⟨rfl, rfl, trivial⟩ (Nat.le_of_ble_eq_true rfl) (ls := [some (va_rf (some a0)), some (.int x1)]) rfl ?_
  intro X hX hR hTb hd1 hd2 hl hg hnm
  subst hl
  subst hg
  have hd : zDep X d := ⟨hd1, hd2⟩
  refine z_iload_n hX dX3_isSet_0 rfl (i := 1) rfl ?_
  refine zJ_w (P := fun (j : Int32 → zS → Prop) => ∀ (p1 : Int32) (s2 : zS), j p1 s2 → zW X s2 18 [none, none] [.int p1]) hw (fun p1 s2 hw => ?_) (fun j3 hj3 hw => ?_)
  · exact z_ireturn hX hR dX3_isSet_18 (zn_z hw.1) hw.2
  · refine zJ_w (P := fun (j : zS → Prop) => ∀  (s4 : zS), j  s4 → zW X s4 17 [none, none] []) hw (fun  s4 hw => ?_) (fun j5 hj5 hw => ?_)
    · refine z_iconst hX (v := (0 : Int32)) dX3_isSet_17 (by decide) ?_
      exact hj3 _ _ hw
    · refine z_if_lt hX dX3_isSet_1 (tgt := 17) rfl (fun c6 => ?_) (fun c6 => ?_)
      · have hw := hw.1 c6
        refine z_sub (ls' := [none, none]) (zsN (zsN (zs0))) ?_
        exact hj5  _ hw
      · have hw := hw.2 c6
        refine z_iload_n hX dX3_isSet_4 rfl (i := 1) rfl ?_
        refine z_aload_n hX dX3_isSet_5 rfl (i := 0) rfl ?_
        obtain ⟨a10, f11, r12, m13, hw⟩ := hw
        refine z_invV hX hd r12 (ci := 4) rfl rfl m13 dX3_isSet_6 (hC 159 _ zm159 _ _ _ _ hw) q2605 q2607 qs46 zh7 q2608 q136 zn159 rfl (Nat.le_of_ble_eq_true rfl) (st := [.int x1]) rfl (zcs8 (Nat.le_of_ble_eq_true rfl)) rfl (zkI (fun v7 s8 hw => ?_)) (zout hX hR hTb)
        refine z_ishr hX dX3_isSet_9 ?_
        refine z_if_ne hX dX3_isSet_10 (tgt := 17) rfl (fun c14 => ?_) (fun c14 => ?_)
        · have hw := hw.1 c14
          refine z_sub (ls' := [none, none]) (zsN (zsN (zs0))) ?_
          exact hj5  _ hw
        · have hw := hw.2 c14
          refine z_iconst hX (v := (1 : Int32)) dX3_isSet_13 (by decide) ?_
          refine z_goto hX dX3_isSet_14 (tgt := 18) rfl ?_
          refine z_sub (ls' := [none, none]) (zsN (zsN (zs0))) ?_
          exact hj3 _ _ hw
abbrev cX3_reply : ByteArray := prog_28_method_67_code
def yX3_reply : MethodName := ⟨RX3, "reply", "(I)I"⟩
def dkwX3_reply_1 : List UInt8 := [27, 42, 180, 0, 9, 5, 46, 4, 182, 0, 139, 172]
abbrev dktX3_reply_1 : List UInt8 := dkwX3_reply_1 ++ []
def dkwX3_reply_0 : List UInt8 := [42, 3, 181, 0, 103, 42, 27, 182, 1, 39, 154, 0, 9, 42, 4, 182, 1, 33, 172, 42, 182, 0, 133, 42]
abbrev dktX3_reply_0 : List UInt8 := dkwX3_reply_0 ++ dktX3_reply_1
theorem dksX3_reply_0 : cX3_reply.data.toList.drop 0 = dktX3_reply_0 := by decide +kernel
theorem dksX3_reply_1 : cX3_reply.data.toList.drop 24 = dktX3_reply_1 := dk_seg dksX3_reply_0 24 rfl rfl
theorem dX3_reply_0 : decode cX3_reply 0 = .ok (.aload_n 0, 1) := dk_42 (dk_at dksX3_reply_0 0 rfl rfl)
theorem dX3_reply_1 : decode cX3_reply 1 = .ok (.iconst 0, 1) := dk_3 (dk_at dksX3_reply_0 1 rfl rfl)
theorem dX3_reply_2 : decode cX3_reply 2 = .ok (.putfield 103, 3) := dk_181 0 103 (dk_at dksX3_reply_0 2 rfl rfl)
theorem dX3_reply_5 : decode cX3_reply 5 = .ok (.aload_n 0, 1) := dk_42 (dk_at dksX3_reply_0 5 rfl rfl)
theorem dX3_reply_6 : decode cX3_reply 6 = .ok (.iload_n 1, 1) := dk_27 (dk_at dksX3_reply_0 6 rfl rfl)
theorem dX3_reply_7 : decode cX3_reply 7 = .ok (.invokevirtual 295, 3) := dk_182 1 39 (dk_at dksX3_reply_0 7 rfl rfl)
theorem dX3_reply_10 : decode cX3_reply 10 = .ok (.ifCond .ne 9, 3) := dk_154 0 9 (dk_at dksX3_reply_0 10 rfl rfl)
theorem dX3_reply_13 : decode cX3_reply 13 = .ok (.aload_n 0, 1) := dk_42 (dk_at dksX3_reply_0 13 rfl rfl)
theorem dX3_reply_14 : decode cX3_reply 14 = .ok (.iconst 1, 1) := dk_4 (dk_at dksX3_reply_0 14 rfl rfl)
theorem dX3_reply_15 : decode cX3_reply 15 = .ok (.invokevirtual 289, 3) := dk_182 1 33 (dk_at dksX3_reply_0 15 rfl rfl)
theorem dX3_reply_18 : decode cX3_reply 18 = .ok (.ireturn, 1) := dk_172 (dk_at dksX3_reply_0 18 rfl rfl)
theorem dX3_reply_19 : decode cX3_reply 19 = .ok (.aload_n 0, 1) := dk_42 (dk_at dksX3_reply_0 19 rfl rfl)
theorem dX3_reply_20 : decode cX3_reply 20 = .ok (.invokevirtual 133, 3) := dk_182 0 133 (dk_at dksX3_reply_0 20 rfl rfl)
theorem dX3_reply_23 : decode cX3_reply 23 = .ok (.aload_n 0, 1) := dk_42 (dk_at dksX3_reply_0 23 rfl rfl)
theorem dX3_reply_24 : decode cX3_reply 24 = .ok (.iload_n 1, 1) := dk_27 (dk_at dksX3_reply_1 0 rfl rfl)
theorem dX3_reply_25 : decode cX3_reply 25 = .ok (.aload_n 0, 1) := dk_42 (dk_at dksX3_reply_1 1 rfl rfl)
theorem dX3_reply_26 : decode cX3_reply 26 = .ok (.getfield 9, 3) := dk_180 0 9 (dk_at dksX3_reply_1 2 rfl rfl)
theorem dX3_reply_29 : decode cX3_reply 29 = .ok (.iconst 2, 1) := dk_5 (dk_at dksX3_reply_1 5 rfl rfl)
theorem dX3_reply_30 : decode cX3_reply 30 = .ok (.iaload, 1) := dk_46 (dk_at dksX3_reply_1 6 rfl rfl)
theorem dX3_reply_31 : decode cX3_reply 31 = .ok (.iconst 1, 1) := dk_4 (dk_at dksX3_reply_1 7 rfl rfl)
theorem dX3_reply_32 : decode cX3_reply 32 = .ok (.invokevirtual 139, 3) := dk_182 0 139 (dk_at dksX3_reply_1 8 rfl rfl)
theorem dX3_reply_35 : decode cX3_reply 35 = .ok (.ireturn, 1) := dk_172 (dk_at dksX3_reply_1 11 rfl rfl)
/-- PackingDuelModel.reply(I)I -/
def zb170 (G : zPg) (C : zO) (args : List Value) (Q : zQ) (Y : zY) (σ : zS) : Prop := ∃ (a0 : Nat) (x1 : Int32), args = [.ref a0, .int x1] ∧ (zput σ G.1 (some a0) 4 5 (.int (0 : Int32)) (fun s1 => zrc s1 (some a0) 4 (fun a12 => zcl C 171 [.ref a12, .int x1] Y s1 (zqI (fun v9 s10 => ((¬ v9 = 0) → zrc s10 (some a0) 4 (fun a20 => zcl C 172 [.ref a20] Y s10 (zqV (fun s18 => zgR s18 (some a0) 4 0 (fun v24 => zaI s18 0 v24 (2 : Int32) (fun v36 => zrc s18 (some a0) 4 (fun a41 => zcl C 173 [.ref a41, .int x1, .int v36, .int (1 : Int32)] Y s18 (zqI (fun v38 s39 => Q (some (.int v38)) s39))))))))) ∧ ((v9 = 0) → zrc s10 (some a0) 4 (fun a48 => zcl C 163 [.ref a48, .int (1 : Int32)] Y s10 (zqI (fun v45 s46 => Q (some (.int v45)) s46)))))))))
set_option maxHeartbeats 4000000 in
theorem wk170 {l : Launch} {g : zG} {d : Nat} {C : zO} (hG : zGk g) (hC : zSound l g d C) {args : List Value} {Q : zQ} {Y : zY} {σ : zS} (hw : zb170 (zpg g) C args Q Y σ) : zMet l g (d + 1) (⟨"PackingDuelModel", "reply", "(I)I"⟩, Cond.code ⟨"PackingDuelModel", "reply", "(I)I"⟩ prog_28_method_67_code 2 (Option.some FieldType.int)) args σ Q Y := by
  obtain ⟨a0, x1, rfl, hw⟩ := hw
  refine zof hG (by decide +kernel) [false, false] ⟨rfl, rfl, trivial⟩ (Nat.le_of_ble_eq_true rfl) (ls := [some (va_rf (some a0)), some (.int x1)]) rfl ?_
  intro X hX hR hTb hd1 hd2 hl hg hnm
  subst hl
  subst hg
  have hd : zDep X d := ⟨hd1, hd2⟩
  refine z_aload_n hX dX3_reply_0 rfl (i := 0) rfl ?_
  refine z_iconst hX (v := (0 : Int32)) dX3_reply_1 (by decide) ?_
  obtain ⟨a3, f4, r5, g6, m7, l8, hw⟩ := hw
  refine z_put hX zc4 (k := 5) dX3_reply_2 (Nat.le_of_ble_eq_true rfl) (zlk hX q2474) rfl rfl rfl r5 g6 m7 l8 (z_nm (fun s1 e2 => ?_))
  have hw := hw s1 e2
  refine z_aload_n hX dX3_reply_5 rfl (i := 0) rfl ?_
  refine z_iload_n hX dX3_reply_6 rfl (i := 1) rfl ?_
  obtain ⟨a12, f13, r14, m15, hw⟩ := hw
  refine z_invV hX hd r14 (ci := 4) rfl rfl m15 dX3_reply_7 (hC 171 _ zm171 _ _ _ _ hw) q2651 q2653 qs53 zh7 q2654 q136 zn171 rfl (Nat.le_of_ble_eq_true rfl) (st := []) rfl (zcs8 (Nat.le_of_ble_eq_true rfl)) rfl (zkI (fun v9 s10 hw => ?_)) (zout hX hR hTb)
  refine z_if_ne hX dX3_reply_10 (tgt := 19) rfl (fun c16 => ?_) (fun c16 => ?_)
  · have hw := hw.1 c16
    refine z_aload_n hX dX3_reply_19 rfl (i := 0) rfl ?_
    obtain ⟨a20, f21, r22, m23, hw⟩ := hw
    refine z_invV hX hd r22 (ci := 4) rfl rfl m23 dX3_reply_20 (hC 172 _ zm172 _ _ _ _ hw) q2655 q2657 qs54 zh7 q2658 q136 zn172 rfl (Nat.le_of_ble_eq_true rfl) (st := []) rfl (zcs8 (Nat.le_of_ble_eq_true rfl)) rfl (zkV (fun s18 hw => ?_)) (zout hX hR hTb)
    refine z_aload_n hX dX3_reply_23 rfl (i := 0) rfl ?_
    refine z_iload_n hX dX3_reply_24 rfl (i := 1) rfl ?_
    refine z_aload_n hX dX3_reply_25 rfl (i := 0) rfl ?_
    obtain ⟨a25, f26, v24, r27, m28, e29, hw⟩ := hw
    refine z_get hX zc4 (k := 0) dX3_reply_26 (Nat.le_of_ble_eq_true rfl) (zlk hX q2469) r27 m28 e29 ?_
    refine z_iconst hX (v := (2 : Int32)) dX3_reply_29 (by decide) ?_
    obtain ⟨a30, n31, f32, r33, m34, i35, hw⟩ := hw
    refine z_iald hX dX3_reply_30 r33 m34 i35 ?_
    revert hw
    generalize f32 (Int32.toNatClampNeg (2 : Int32)) = v36
    intro hw
    refine z_iconst hX (v := (1 : Int32)) dX3_reply_31 (by decide) ?_
    obtain ⟨a41, f42, r43, m44, hw⟩ := hw
    refine z_invV hX hd r43 (ci := 4) rfl rfl m44 dX3_reply_32 (hC 173 _ zm173 _ _ _ _ hw) q2659 q2661 qs55 zh7 q2662 q136 zn173 rfl (Nat.le_of_ble_eq_true rfl) (st := []) rfl (zcs8 (Nat.le_of_ble_eq_true rfl)) rfl (zkI (fun v38 s39 hw => ?_)) (zout hX hR hTb)
    exact z_ireturn hX hR dX3_reply_35 rfl hw
  · have hw := hw.2 c16
    refine z_aload_n hX dX3_reply_13 rfl (i := 0) rfl ?_
    refine z_iconst hX (v := (1 : Int32)) dX3_reply_14 (by decide) ?_
    obtain ⟨a48, f49, r50, m51, hw⟩ := hw
    refine z_invV hX hd r50 (ci := 4) rfl rfl m51 dX3_reply_15 (hC 163 _ zm163 _ _ _ _ hw) q2620 q2622 qs49 zh7 q2623 q136 zn163 rfl (Nat.le_of_ble_eq_true rfl) (st := []) rfl (zcs8 (Nat.le_of_ble_eq_true rfl)) rfl (zkI (fun v45 s46 hw => ?_)) (zout hX hR hTb)
    exact z_ireturn hX hR dX3_reply_18 rfl hw
abbrev cX3_isPlan : ByteArray := prog_28_method_13_code
def yX3_isPlan : MethodName := ⟨RX3, "isPlan", "(I)Z"⟩
def dkwX3_isPlan_0 : List UInt8 := [42, 27, 182, 0, 121, 153, 0, 15, 42, 27, 182, 0, 125, 155, 0, 7, 4, 167, 0, 4, 3, 172]
abbrev dktX3_isPlan_0 : List UInt8 := dkwX3_isPlan_0 ++ []
theorem dksX3_isPlan_0 : cX3_isPlan.data.toList.drop 0 = dktX3_isPlan_0 := by decide +kernel
theorem dX3_isPlan_0 : decode cX3_isPlan 0 = .ok (.aload_n 0, 1) := dk_42 (dk_at dksX3_isPlan_0 0 rfl rfl)
theorem dX3_isPlan_1 : decode cX3_isPlan 1 = .ok (.iload_n 1, 1) := dk_27 (dk_at dksX3_isPlan_0 1 rfl rfl)
theorem dX3_isPlan_2 : decode cX3_isPlan 2 = .ok (.invokevirtual 121, 3) := dk_182 0 121 (dk_at dksX3_isPlan_0 2 rfl rfl)
theorem dX3_isPlan_5 : decode cX3_isPlan 5 = .ok (.ifCond .eq 15, 3) := dk_153 0 15 (dk_at dksX3_isPlan_0 5 rfl rfl)
theorem dX3_isPlan_8 : decode cX3_isPlan 8 = .ok (.aload_n 0, 1) := dk_42 (dk_at dksX3_isPlan_0 8 rfl rfl)
theorem dX3_isPlan_9 : decode cX3_isPlan 9 = .ok (.iload_n 1, 1) := dk_27 (dk_at dksX3_isPlan_0 9 rfl rfl)
theorem dX3_isPlan_10 : decode cX3_isPlan 10 = .ok (.invokevirtual 125, 3) := dk_182 0 125 (dk_at dksX3_isPlan_0 10 rfl rfl)
theorem dX3_isPlan_13 : decode cX3_isPlan 13 = .ok (.ifCond .lt 7, 3) := dk_155 0 7 (dk_at dksX3_isPlan_0 13 rfl rfl)
theorem dX3_isPlan_16 : decode cX3_isPlan 16 = .ok (.iconst 1, 1) := dk_4 (dk_at dksX3_isPlan_0 16 rfl rfl)
theorem dX3_isPlan_17 : decode cX3_isPlan 17 = .ok (.goto 4, 3) := dk_167 0 4 (dk_at dksX3_isPlan_0 17 rfl rfl)
theorem dX3_isPlan_20 : decode cX3_isPlan 20 = .ok (.iconst 0, 1) := dk_3 (dk_at dksX3_isPlan_0 20 rfl rfl)
theorem dX3_isPlan_21 : decode cX3_isPlan 21 = .ok (.ireturn, 1) := dk_172 (dk_at dksX3_isPlan_0 21 rfl rfl)
/-- PackingDuelModel.isPlan(I)Z -/
def zb171 (G : zPg) (C : zO) (args : List Value) (Q : zQ) (Y : zY) (σ : zS) : Prop := ∃ (a0 : Nat) (x1 : Int32), args = [.ref a0, .int x1] ∧ (zrc σ (some a0) 4 (fun a4 => zcl C 169 [.ref a4, .int x1] Y σ (zqI (fun v1 s2 => zJ (fun (p8 : Int32) (s9 : zS) => zbool p8 ∧ Q (some (.int p8)) s9) (fun (j10 : Int32 → zS → Prop) => zJ (fun  (s11 : zS) => j10 (0 : Int32) s11) (fun (j12 : zS → Prop) => ((v1 = 0) → j12 s2) ∧ ((¬ v1 = 0) → zrc s2 (some a0) 4 (fun a17 => zcl C 160 [.ref a17, .int x1] Y s2 (zqI (fun v14 s15 => ((v14 < 0) → j12 s15) ∧ ((¬ v14 < 0) → j10 (1 : Int32) s15)))))))))))
set_option maxHeartbeats 4000000 in
theorem wk171 {l : Launch} {g : zG} {d : Nat} {C : zO} (hG : zGk g) (hC : zSound l g d C) {args : List Value} {Q : zQ} {Y : zY} {σ : zS} (hw : zb171 (zpg g) C args Q Y σ) : zMet l g (d + 1) (⟨"PackingDuelModel", "isPlan", "(I)Z"⟩, Cond.code ⟨"PackingDuelModel", "isPlan", "(I)Z"⟩ prog_28_method_13_code 2 (Option.some FieldType.boolean)) args σ Q Y := by
  obtain ⟨a0, x1, rfl, hw⟩ := hw
  refine zof hG (by decide +kernel) [false, false] ⟨rfl, rfl, trivial⟩ (Nat.le_of_ble_eq_true rfl) (ls := [some (va_rf (some a0)), some (.int x1)]) rfl ?_
  intro X hX hR hTb hd1 hd2 hl hg hnm
  subst hl
  subst hg
  have hd : zDep X d := ⟨hd1, hd2⟩
  refine z_aload_n hX dX3_isPlan_0 rfl (i := 0) rfl ?_
  refine z_iload_n hX dX3_isPlan_1 rfl (i := 1) rfl ?_
  obtain ⟨a4, f5, r6, m7, hw⟩ := hw
  refine z_invV hX hd r6 (ci := 4) rfl rfl m7 dX3_isPlan_2 (hC 169 _ zm169 _ _ _ _ hw) q2643 q2645 qs52 zh7 q2646 q136 zn169 rfl (Nat.le_of_ble_eq_true rfl) (st := []) rfl (zcs8 (Nat.le_of_ble_eq_true rfl)) rfl (zkI (fun v1 s2 hw => ?_)) (zout hX hR hTb)
  refine zJ_w (P := fun (j : Int32 → zS → Prop) => ∀ (p8 : Int32) (s9 : zS), j p8 s9 → zW X s9 21 [none, none] [.int p8]) hw (fun p8 s9 hw => ?_) (fun j10 hj10 hw => ?_)
  · exact z_ireturn hX hR dX3_isPlan_21 (zn_z hw.1) hw.2
  · refine zJ_w (P := fun (j : zS → Prop) => ∀  (s11 : zS), j  s11 → zW X s11 20 [none, none] []) hw (fun  s11 hw => ?_) (fun j12 hj12 hw => ?_)
    · refine z_iconst hX (v := (0 : Int32)) dX3_isPlan_20 (by decide) ?_
      exact hj10 _ _ hw
    · refine z_if_eq hX dX3_isPlan_5 (tgt := 20) rfl (fun c13 => ?_) (fun c13 => ?_)
      · have hw := hw.1 c13
        refine z_sub (ls' := [none, none]) (zsN (zsN (zs0))) ?_
        exact hj12  _ hw
      · have hw := hw.2 c13
        refine z_aload_n hX dX3_isPlan_8 rfl (i := 0) rfl ?_
        refine z_iload_n hX dX3_isPlan_9 rfl (i := 1) rfl ?_
        obtain ⟨a17, f18, r19, m20, hw⟩ := hw
        refine z_invV hX hd r19 (ci := 4) rfl rfl m20 dX3_isPlan_10 (hC 160 _ zm160 _ _ _ _ hw) q2609 q2611 qs47 zh7 q2612 q136 zn160 rfl (Nat.le_of_ble_eq_true rfl) (st := []) rfl (zcs8 (Nat.le_of_ble_eq_true rfl)) rfl (zkI (fun v14 s15 hw => ?_)) (zout hX hR hTb)
        refine z_if_lt hX dX3_isPlan_13 (tgt := 20) rfl (fun c21 => ?_) (fun c21 => ?_)
        · have hw := hw.1 c21
          refine z_sub (ls' := [none, none]) (zsN (zsN (zs0))) ?_
          exact hj12  _ hw
        · have hw := hw.2 c21
          refine z_iconst hX (v := (1 : Int32)) dX3_isPlan_16 (by decide) ?_
          refine z_goto hX dX3_isPlan_17 (tgt := 21) rfl ?_
          refine z_sub (ls' := [none, none]) (zsN (zsN (zs0))) ?_
          exact hj10 _ _ hw
abbrev cX3_laySums : ByteArray := prog_28_method_14_code
def yX3_laySums : MethodName := ⟨RX3, "laySums", "()V"⟩
def dkwX3_laySums_2 : List UInt8 := [42, 180, 0, 31, 27, 42, 27, 6, 182, 0, 117, 79, 132, 1, 1, 167, 255, 195, 177]
abbrev dktX3_laySums_2 : List UInt8 := dkwX3_laySums_2 ++ []
def dkwX3_laySums_1 : List UInt8 := [42, 180, 0, 25, 27, 42, 27, 4, 182, 0, 117, 79, 42, 180, 0, 28, 27, 42, 27, 5, 182, 0, 117, 79]
abbrev dktX3_laySums_1 : List UInt8 := dkwX3_laySums_1 ++ dktX3_laySums_2
def dkwX3_laySums_0 : List UInt8 := [3, 60, 27, 4, 42, 182, 0, 106, 120, 162, 0, 57, 42, 180, 0, 22, 27, 42, 27, 3, 182, 0, 117, 79]
abbrev dktX3_laySums_0 : List UInt8 := dkwX3_laySums_0 ++ dktX3_laySums_1
theorem dksX3_laySums_0 : cX3_laySums.data.toList.drop 0 = dktX3_laySums_0 := by decide +kernel
theorem dksX3_laySums_1 : cX3_laySums.data.toList.drop 24 = dktX3_laySums_1 := dk_seg dksX3_laySums_0 24 rfl rfl
theorem dksX3_laySums_2 : cX3_laySums.data.toList.drop 48 = dktX3_laySums_2 := dk_seg dksX3_laySums_1 24 rfl rfl
theorem dX3_laySums_0 : decode cX3_laySums 0 = .ok (.iconst 0, 1) := dk_3 (dk_at dksX3_laySums_0 0 rfl rfl)
theorem dX3_laySums_1 : decode cX3_laySums 1 = .ok (.istore_n 1, 1) := dk_60 (dk_at dksX3_laySums_0 1 rfl rfl)
theorem dX3_laySums_2 : decode cX3_laySums 2 = .ok (.iload_n 1, 1) := dk_27 (dk_at dksX3_laySums_0 2 rfl rfl)
theorem dX3_laySums_3 : decode cX3_laySums 3 = .ok (.iconst 1, 1) := dk_4 (dk_at dksX3_laySums_0 3 rfl rfl)
theorem dX3_laySums_4 : decode cX3_laySums 4 = .ok (.aload_n 0, 1) := dk_42 (dk_at dksX3_laySums_0 4 rfl rfl)
theorem dX3_laySums_5 : decode cX3_laySums 5 = .ok (.invokevirtual 106, 3) := dk_182 0 106 (dk_at dksX3_laySums_0 5 rfl rfl)
theorem dX3_laySums_8 : decode cX3_laySums 8 = .ok (.ishl, 1) := dk_120 (dk_at dksX3_laySums_0 8 rfl rfl)
theorem dX3_laySums_9 : decode cX3_laySums 9 = .ok (.if_icmp .ge 57, 3) := dk_162 0 57 (dk_at dksX3_laySums_0 9 rfl rfl)
theorem dX3_laySums_12 : decode cX3_laySums 12 = .ok (.aload_n 0, 1) := dk_42 (dk_at dksX3_laySums_0 12 rfl rfl)
theorem dX3_laySums_13 : decode cX3_laySums 13 = .ok (.getfield 22, 3) := dk_180 0 22 (dk_at dksX3_laySums_0 13 rfl rfl)
theorem dX3_laySums_16 : decode cX3_laySums 16 = .ok (.iload_n 1, 1) := dk_27 (dk_at dksX3_laySums_0 16 rfl rfl)
theorem dX3_laySums_17 : decode cX3_laySums 17 = .ok (.aload_n 0, 1) := dk_42 (dk_at dksX3_laySums_0 17 rfl rfl)
theorem dX3_laySums_18 : decode cX3_laySums 18 = .ok (.iload_n 1, 1) := dk_27 (dk_at dksX3_laySums_0 18 rfl rfl)
theorem dX3_laySums_19 : decode cX3_laySums 19 = .ok (.iconst 0, 1) := dk_3 (dk_at dksX3_laySums_0 19 rfl rfl)
theorem dX3_laySums_20 : decode cX3_laySums 20 = .ok (.invokevirtual 117, 3) := dk_182 0 117 (dk_at dksX3_laySums_0 20 rfl rfl)
theorem dX3_laySums_23 : decode cX3_laySums 23 = .ok (.iastore, 1) := dk_79 (dk_at dksX3_laySums_0 23 rfl rfl)
theorem dX3_laySums_24 : decode cX3_laySums 24 = .ok (.aload_n 0, 1) := dk_42 (dk_at dksX3_laySums_1 0 rfl rfl)
theorem dX3_laySums_25 : decode cX3_laySums 25 = .ok (.getfield 25, 3) := dk_180 0 25 (dk_at dksX3_laySums_1 1 rfl rfl)
theorem dX3_laySums_28 : decode cX3_laySums 28 = .ok (.iload_n 1, 1) := dk_27 (dk_at dksX3_laySums_1 4 rfl rfl)
theorem dX3_laySums_29 : decode cX3_laySums 29 = .ok (.aload_n 0, 1) := dk_42 (dk_at dksX3_laySums_1 5 rfl rfl)
theorem dX3_laySums_30 : decode cX3_laySums 30 = .ok (.iload_n 1, 1) := dk_27 (dk_at dksX3_laySums_1 6 rfl rfl)
theorem dX3_laySums_31 : decode cX3_laySums 31 = .ok (.iconst 1, 1) := dk_4 (dk_at dksX3_laySums_1 7 rfl rfl)
theorem dX3_laySums_32 : decode cX3_laySums 32 = .ok (.invokevirtual 117, 3) := dk_182 0 117 (dk_at dksX3_laySums_1 8 rfl rfl)
theorem dX3_laySums_35 : decode cX3_laySums 35 = .ok (.iastore, 1) := dk_79 (dk_at dksX3_laySums_1 11 rfl rfl)
theorem dX3_laySums_36 : decode cX3_laySums 36 = .ok (.aload_n 0, 1) := dk_42 (dk_at dksX3_laySums_1 12 rfl rfl)
theorem dX3_laySums_37 : decode cX3_laySums 37 = .ok (.getfield 28, 3) := dk_180 0 28 (dk_at dksX3_laySums_1 13 rfl rfl)
theorem dX3_laySums_40 : decode cX3_laySums 40 = .ok (.iload_n 1, 1) := dk_27 (dk_at dksX3_laySums_1 16 rfl rfl)
theorem dX3_laySums_41 : decode cX3_laySums 41 = .ok (.aload_n 0, 1) := dk_42 (dk_at dksX3_laySums_1 17 rfl rfl)
theorem dX3_laySums_42 : decode cX3_laySums 42 = .ok (.iload_n 1, 1) := dk_27 (dk_at dksX3_laySums_1 18 rfl rfl)
theorem dX3_laySums_43 : decode cX3_laySums 43 = .ok (.iconst 2, 1) := dk_5 (dk_at dksX3_laySums_1 19 rfl rfl)
theorem dX3_laySums_44 : decode cX3_laySums 44 = .ok (.invokevirtual 117, 3) := dk_182 0 117 (dk_at dksX3_laySums_1 20 rfl rfl)
theorem dX3_laySums_47 : decode cX3_laySums 47 = .ok (.iastore, 1) := dk_79 (dk_at dksX3_laySums_1 23 rfl rfl)
theorem dX3_laySums_48 : decode cX3_laySums 48 = .ok (.aload_n 0, 1) := dk_42 (dk_at dksX3_laySums_2 0 rfl rfl)
theorem dX3_laySums_49 : decode cX3_laySums 49 = .ok (.getfield 31, 3) := dk_180 0 31 (dk_at dksX3_laySums_2 1 rfl rfl)
theorem dX3_laySums_52 : decode cX3_laySums 52 = .ok (.iload_n 1, 1) := dk_27 (dk_at dksX3_laySums_2 4 rfl rfl)
theorem dX3_laySums_53 : decode cX3_laySums 53 = .ok (.aload_n 0, 1) := dk_42 (dk_at dksX3_laySums_2 5 rfl rfl)
theorem dX3_laySums_54 : decode cX3_laySums 54 = .ok (.iload_n 1, 1) := dk_27 (dk_at dksX3_laySums_2 6 rfl rfl)
theorem dX3_laySums_55 : decode cX3_laySums 55 = .ok (.iconst 3, 1) := dk_6 (dk_at dksX3_laySums_2 7 rfl rfl)
theorem dX3_laySums_56 : decode cX3_laySums 56 = .ok (.invokevirtual 117, 3) := dk_182 0 117 (dk_at dksX3_laySums_2 8 rfl rfl)
theorem dX3_laySums_59 : decode cX3_laySums 59 = .ok (.iastore, 1) := dk_79 (dk_at dksX3_laySums_2 11 rfl rfl)
theorem dX3_laySums_60 : decode cX3_laySums 60 = .ok (.iinc 1 1, 3) := dk_132 1 1 (dk_at dksX3_laySums_2 12 rfl rfl)
theorem dX3_laySums_63 : decode cX3_laySums 63 = .ok (.goto (-61), 3) := dk_167 255 195 (dk_at dksX3_laySums_2 15 rfl rfl)
theorem dX3_laySums_66 : decode cX3_laySums 66 = .ok (.return_, 1) := dk_177 (dk_at dksX3_laySums_2 18 rfl rfl)
/-- PackingDuelModel.laySums()V -/
def zb172 (G : zPg) (C : zO) (args : List Value) (Q : zQ) (Y : zY) (σ : zS) : Prop := ∃ (a0 : Nat), args = [.ref a0] ∧ (∃ n, zIt (fun _ _ => False) (fun rec3 (p1 : Int32) (s2 : zS) => zrc s2 (some a0) 4 (fun a7 => zcl C 159 [.ref a7] Y s2 (zqI (fun v4 s5 => ((((1 : Int32) <<< (v4 &&& 31)) ≤ p1) → Q none s5) ∧ ((¬ ((1 : Int32) <<< (v4 &&& 31)) ≤ p1) → zgR s5 (some a0) 4 7 (fun v12 => zrc s5 (some a0) 4 (fun a21 => zcl C 161 [.ref a21, .int p1, .int (0 : Int32)] Y s5 (zqI (fun v18 s19 => zsI s19 G.1 0 v12 p1 v18 (fun s32 => zgR s32 (some a0) 4 8 (fun v34 => zrc s32 (some a0) 4 (fun a43 => zcl C 161 [.ref a43, .int p1, .int (1 : Int32)] Y s32 (zqI (fun v40 s41 => zsI s41 G.1 0 v34 p1 v40 (fun s54 => zgR s54 (some a0) 4 9 (fun v56 => zrc s54 (some a0) 4 (fun a65 => zcl C 161 [.ref a65, .int p1, .int (2 : Int32)] Y s54 (zqI (fun v62 s63 => zsI s63 G.1 0 v56 p1 v62 (fun s76 => zgR s76 (some a0) 4 10 (fun v78 => zrc s76 (some a0) 4 (fun a87 => zcl C 161 [.ref a87, .int p1, .int (3 : Int32)] Y s76 (zqI (fun v84 s85 => zsI s85 G.1 0 v78 p1 v84 (fun s98 => (∀ v100 : Int32, v100 = p1 + (1 : Int32) → rec3 v100 s98)))))))))))))))))))))))))) n (0 : Int32) σ)
set_option maxHeartbeats 4000000 in
theorem wk172 {l : Launch} {g : zG} {d : Nat} {C : zO} (hG : zGk g) (hC : zSound l g d C) {args : List Value} {Q : zQ} {Y : zY} {σ : zS} (hw : zb172 (zpg g) C args Q Y σ) : zMet l g (d + 1) (⟨"PackingDuelModel", "laySums", "()V"⟩, Cond.code ⟨"PackingDuelModel", "laySums", "()V"⟩ prog_28_method_14_code 2 (Option.none : Option FieldType)) args σ Q Y := by
  obtain ⟨a0, rfl, hw⟩ := hw
  refine zof hG (by decide +kernel) [false] ⟨rfl, trivial⟩ (Nat.le_of_ble_eq_true rfl) (ls := [some (va_rf (some a0)), none]) rfl ?_
  intro X hX hR hTb hd1 hd2 hl hg hnm
  subst hl
  subst hg
  have hd : zDep X d := ⟨hd1, hd2⟩
  refine z_iconst hX (v := (0 : Int32)) dX3_laySums_0 (by decide) ?_
  refine z_istore_n hX dX3_laySums_1 rfl (i := 1) (Nat.le_of_ble_eq_true rfl) (zc_rf _) (ls2 := [some (va_rf (some a0)), some (.int (0 : Int32))]) rfl ?_
  obtain ⟨n102, hw⟩ := hw
  refine zIt_w (P := fun (j : Int32 → zS → Prop) => ∀ (p1 : Int32) (s2 : zS), j p1 s2 → zW X s2 2 [some (va_rf (some a0)), some (.int p1)] []) (fun _ _ h => h.elim) (fun rec3 hrec3 p1 s2 hw => ?_) n102 _ _ hw
  refine z_iload_n hX dX3_laySums_2 rfl (i := 1) rfl ?_
  refine z_iconst hX (v := (1 : Int32)) dX3_laySums_3 (by decide) ?_
  refine z_aload_n hX dX3_laySums_4 rfl (i := 0) rfl ?_
  obtain ⟨a7, f8, r9, m10, hw⟩ := hw
  refine z_invV hX hd r9 (ci := 4) rfl rfl m10 dX3_laySums_5 (hC 159 _ zm159 _ _ _ _ hw) q2605 q2607 qs46 zh7 q2608 q136 zn159 rfl (Nat.le_of_ble_eq_true rfl) (st := [.int (1 : Int32), .int p1]) rfl (zcs8 (Nat.le_of_ble_eq_true rfl)) rfl (zkI (fun v4 s5 hw => ?_)) (zout hX hR hTb)
  refine z_ishl hX dX3_laySums_8 ?_
  refine z_icmp_ge hX dX3_laySums_9 (tgt := 66) rfl (fun c11 => ?_) (fun c11 => ?_)
  · have hw := hw.1 c11
    exact z_return hX hR dX3_laySums_66 hw
  · have hw := hw.2 c11
    refine z_aload_n hX dX3_laySums_12 rfl (i := 0) rfl ?_
    obtain ⟨a13, f14, v12, r15, m16, e17, hw⟩ := hw
    refine z_get hX zc4 (k := 7) dX3_laySums_13 (Nat.le_of_ble_eq_true rfl) (zlk hX q2476) r15 m16 e17 ?_
    refine z_iload_n hX dX3_laySums_16 rfl (i := 1) rfl ?_
    refine z_aload_n hX dX3_laySums_17 rfl (i := 0) rfl ?_
    refine z_iload_n hX dX3_laySums_18 rfl (i := 1) rfl ?_
    refine z_iconst hX (v := (0 : Int32)) dX3_laySums_19 (by decide) ?_
    obtain ⟨a21, f22, r23, m24, hw⟩ := hw
    refine z_invV hX hd r23 (ci := 4) rfl rfl m24 dX3_laySums_20 (hC 161 _ zm161 _ _ _ _ hw) q2613 q2615 qs48 zh7 q2616 q136 zn161 rfl (Nat.le_of_ble_eq_true rfl) (st := [.int p1, va_rf v12]) rfl (zcs8 (Nat.le_of_ble_eq_true rfl)) rfl (zkI (fun v18 s19 hw => ?_)) (zout hX hR hTb)
    obtain ⟨a25, n26, f27, r28, g29, m30, i31, hw⟩ := hw
    refine z_iast hX dX3_laySums_23 r28 g29 m30 i31 (z_nm (fun s32 e33 => ?_))
    have hw := hw s32 e33
    refine z_aload_n hX dX3_laySums_24 rfl (i := 0) rfl ?_
    obtain ⟨a35, f36, v34, r37, m38, e39, hw⟩ := hw
    refine z_get hX zc4 (k := 8) dX3_laySums_25 (Nat.le_of_ble_eq_true rfl) (zlk hX q2477) r37 m38 e39 ?_
    refine z_iload_n hX dX3_laySums_28 rfl (i := 1) rfl ?_
    refine z_aload_n hX dX3_laySums_29 rfl (i := 0) rfl ?_
    refine z_iload_n hX dX3_laySums_30 rfl (i := 1) rfl ?_
    refine z_iconst hX (v := (1 : Int32)) dX3_laySums_31 (by decide) ?_
    obtain ⟨a43, f44, r45, m46, hw⟩ := hw
    refine z_invV hX hd r45 (ci := 4) rfl rfl m46 dX3_laySums_32 (hC 161 _ zm161 _ _ _ _ hw) q2613 q2615 qs48 zh7 q2616 q136 zn161 rfl (Nat.le_of_ble_eq_true rfl) (st := [.int p1, va_rf v34]) rfl (zcs8 (Nat.le_of_ble_eq_true rfl)) rfl (zkI (fun v40 s41 hw => ?_)) (zout hX hR hTb)
    obtain ⟨a47, n48, f49, r50, g51, m52, i53, hw⟩ := hw
    refine z_iast hX dX3_laySums_35 r50 g51 m52 i53 (z_nm (fun s54 e55 => ?_))
    have hw := hw s54 e55
    refine z_aload_n hX dX3_laySums_36 rfl (i := 0) rfl ?_
    obtain ⟨a57, f58, v56, r59, m60, e61, hw⟩ := hw
    refine z_get hX zc4 (k := 9) dX3_laySums_37 (Nat.le_of_ble_eq_true rfl) (zlk hX q2478) r59 m60 e61 ?_
    refine z_iload_n hX dX3_laySums_40 rfl (i := 1) rfl ?_
    refine z_aload_n hX dX3_laySums_41 rfl (i := 0) rfl ?_
    refine z_iload_n hX dX3_laySums_42 rfl (i := 1) rfl ?_
    refine z_iconst hX (v := (2 : Int32)) dX3_laySums_43 (by decide) ?_
    obtain ⟨a65, f66, r67, m68, hw⟩ := hw
    refine z_invV hX hd r67 (ci := 4) rfl rfl m68 dX3_laySums_44 (hC 161 _ zm161 _ _ _ _ hw) q2613 q2615 qs48 zh7 q2616 q136 zn161 rfl (Nat.le_of_ble_eq_true rfl) (st := [.int p1, va_rf v56]) rfl (zcs8 (Nat.le_of_ble_eq_true rfl)) rfl (zkI (fun v62 s63 hw => ?_)) (zout hX hR hTb)
    obtain ⟨a69, n70, f71, r72, g73, m74, i75, hw⟩ := hw
    refine z_iast hX dX3_laySums_47 r72 g73 m74 i75 (z_nm (fun s76 e77 => ?_))
    have hw := hw s76 e77
    refine z_aload_n hX dX3_laySums_48 rfl (i := 0) rfl ?_
    obtain ⟨a79, f80, v78, r81, m82, e83, hw⟩ := hw
    refine z_get hX zc4 (k := 10) dX3_laySums_49 (Nat.le_of_ble_eq_true rfl) (zlk hX q2479) r81 m82 e83 ?_
    refine z_iload_n hX dX3_laySums_52 rfl (i := 1) rfl ?_
    refine z_aload_n hX dX3_laySums_53 rfl (i := 0) rfl ?_
    refine z_iload_n hX dX3_laySums_54 rfl (i := 1) rfl ?_
    refine z_iconst hX (v := (3 : Int32)) dX3_laySums_55 (by decide) ?_
    obtain ⟨a87, f88, r89, m90, hw⟩ := hw
    refine z_invV hX hd r89 (ci := 4) rfl rfl m90 dX3_laySums_56 (hC 161 _ zm161 _ _ _ _ hw) q2613 q2615 qs48 zh7 q2616 q136 zn161 rfl (Nat.le_of_ble_eq_true rfl) (st := [.int p1, va_rf v78]) rfl (zcs8 (Nat.le_of_ble_eq_true rfl)) rfl (zkI (fun v84 s85 hw => ?_)) (zout hX hR hTb)
    obtain ⟨a91, n92, f93, r94, g95, m96, i97, hw⟩ := hw
    refine z_iast hX dX3_laySums_59 r94 g95 m96 i97 (z_nm (fun s98 e99 => ?_))
    have hw := hw s98 e99
    obtain ⟨v100, e101⟩ : ∃ y : Int32, y = p1 + (1 : Int32) := ⟨_, rfl⟩
    refine z_iinc hX dX3_laySums_60 (i := 1) (v := v100) rfl (by rw [e101]; rfl) (Nat.le_of_ble_eq_true rfl) (zc_rf _) (ls2 := [some (va_rf (some a0)), some (.int v100)]) rfl ?_
    have hw := hw v100 e101
    refine z_goto hX dX3_laySums_63 (tgt := 2) rfl ?_
    exact hrec3 _ _ hw
abbrev cX3_replyTo : ByteArray := prog_28_method_16_code
def yX3_replyTo : MethodName := ⟨RX3, "replyTo", "(IIZ)I"⟩
def dkwX3_replyTo_4 : List UInt8 := [21, 6, 172]
abbrev dktX3_replyTo_4 : List UInt8 := dkwX3_replyTo_4 ++ []
def dkwX3_replyTo_3 : List UInt8 := [153, 0, 8, 21, 7, 167, 0, 5, 21, 6, 54, 6, 21, 7, 4, 100, 21, 5, 126, 54, 7, 167, 255, 209]
abbrev dktX3_replyTo_3 : List UInt8 := dkwX3_replyTo_3 ++ dktX3_replyTo_4
def dkwX3_replyTo_2 : List UInt8 := [158, 0, 48, 42, 180, 0, 22, 21, 7, 46, 21, 4, 163, 0, 20, 42, 21, 7, 21, 6, 29, 182, 0, 129]
abbrev dktX3_replyTo_2 : List UInt8 := dkwX3_replyTo_2 ++ dktX3_replyTo_3
def dkwX3_replyTo_1 : List UInt8 := [42, 182, 0, 106, 120, 4, 100, 27, 2, 130, 126, 54, 5, 3, 54, 6, 21, 5, 54, 7, 21, 7]
abbrev dktX3_replyTo_1 : List UInt8 := dkwX3_replyTo_1 ++ dktX3_replyTo_2
def dkwX3_replyTo_0 : List UInt8 := [42, 180, 0, 9, 4, 46, 42, 180, 0, 22, 27, 46, 100, 54, 4, 21, 4, 28, 162, 0, 5, 3, 172, 4]
abbrev dktX3_replyTo_0 : List UInt8 := dkwX3_replyTo_0 ++ dktX3_replyTo_1
theorem dksX3_replyTo_0 : cX3_replyTo.data.toList.drop 0 = dktX3_replyTo_0 := by decide +kernel
theorem dksX3_replyTo_1 : cX3_replyTo.data.toList.drop 24 = dktX3_replyTo_1 := dk_seg dksX3_replyTo_0 24 rfl rfl
theorem dksX3_replyTo_2 : cX3_replyTo.data.toList.drop 46 = dktX3_replyTo_2 := dk_seg dksX3_replyTo_1 22 rfl rfl
theorem dksX3_replyTo_3 : cX3_replyTo.data.toList.drop 70 = dktX3_replyTo_3 := dk_seg dksX3_replyTo_2 24 rfl rfl
theorem dksX3_replyTo_4 : cX3_replyTo.data.toList.drop 94 = dktX3_replyTo_4 := dk_seg dksX3_replyTo_3 24 rfl rfl
theorem dX3_replyTo_0 : decode cX3_replyTo 0 = .ok (.aload_n 0, 1) := dk_42 (dk_at dksX3_replyTo_0 0 rfl rfl)
theorem dX3_replyTo_1 : decode cX3_replyTo 1 = .ok (.getfield 9, 3) := dk_180 0 9 (dk_at dksX3_replyTo_0 1 rfl rfl)
theorem dX3_replyTo_4 : decode cX3_replyTo 4 = .ok (.iconst 1, 1) := dk_4 (dk_at dksX3_replyTo_0 4 rfl rfl)
theorem dX3_replyTo_5 : decode cX3_replyTo 5 = .ok (.iaload, 1) := dk_46 (dk_at dksX3_replyTo_0 5 rfl rfl)
theorem dX3_replyTo_6 : decode cX3_replyTo 6 = .ok (.aload_n 0, 1) := dk_42 (dk_at dksX3_replyTo_0 6 rfl rfl)
theorem dX3_replyTo_7 : decode cX3_replyTo 7 = .ok (.getfield 22, 3) := dk_180 0 22 (dk_at dksX3_replyTo_0 7 rfl rfl)
theorem dX3_replyTo_10 : decode cX3_replyTo 10 = .ok (.iload_n 1, 1) := dk_27 (dk_at dksX3_replyTo_0 10 rfl rfl)
theorem dX3_replyTo_11 : decode cX3_replyTo 11 = .ok (.iaload, 1) := dk_46 (dk_at dksX3_replyTo_0 11 rfl rfl)
theorem dX3_replyTo_12 : decode cX3_replyTo 12 = .ok (.isub, 1) := dk_100 (dk_at dksX3_replyTo_0 12 rfl rfl)
theorem dX3_replyTo_13 : decode cX3_replyTo 13 = .ok (.istore 4, 2) := dk_54 4 (dk_at dksX3_replyTo_0 13 rfl rfl)
theorem dX3_replyTo_15 : decode cX3_replyTo 15 = .ok (.iload 4, 2) := dk_21 4 (dk_at dksX3_replyTo_0 15 rfl rfl)
theorem dX3_replyTo_17 : decode cX3_replyTo 17 = .ok (.iload_n 2, 1) := dk_28 (dk_at dksX3_replyTo_0 17 rfl rfl)
theorem dX3_replyTo_18 : decode cX3_replyTo 18 = .ok (.if_icmp .ge 5, 3) := dk_162 0 5 (dk_at dksX3_replyTo_0 18 rfl rfl)
theorem dX3_replyTo_21 : decode cX3_replyTo 21 = .ok (.iconst 0, 1) := dk_3 (dk_at dksX3_replyTo_0 21 rfl rfl)
theorem dX3_replyTo_22 : decode cX3_replyTo 22 = .ok (.ireturn, 1) := dk_172 (dk_at dksX3_replyTo_0 22 rfl rfl)
theorem dX3_replyTo_23 : decode cX3_replyTo 23 = .ok (.iconst 1, 1) := dk_4 (dk_at dksX3_replyTo_0 23 rfl rfl)
theorem dX3_replyTo_24 : decode cX3_replyTo 24 = .ok (.aload_n 0, 1) := dk_42 (dk_at dksX3_replyTo_1 0 rfl rfl)
theorem dX3_replyTo_25 : decode cX3_replyTo 25 = .ok (.invokevirtual 106, 3) := dk_182 0 106 (dk_at dksX3_replyTo_1 1 rfl rfl)
theorem dX3_replyTo_28 : decode cX3_replyTo 28 = .ok (.ishl, 1) := dk_120 (dk_at dksX3_replyTo_1 4 rfl rfl)
theorem dX3_replyTo_29 : decode cX3_replyTo 29 = .ok (.iconst 1, 1) := dk_4 (dk_at dksX3_replyTo_1 5 rfl rfl)
theorem dX3_replyTo_30 : decode cX3_replyTo 30 = .ok (.isub, 1) := dk_100 (dk_at dksX3_replyTo_1 6 rfl rfl)
theorem dX3_replyTo_31 : decode cX3_replyTo 31 = .ok (.iload_n 1, 1) := dk_27 (dk_at dksX3_replyTo_1 7 rfl rfl)
theorem dX3_replyTo_32 : decode cX3_replyTo 32 = .ok (.iconst (-1), 1) := dk_2 (dk_at dksX3_replyTo_1 8 rfl rfl)
theorem dX3_replyTo_33 : decode cX3_replyTo 33 = .ok (.ixor, 1) := dk_130 (dk_at dksX3_replyTo_1 9 rfl rfl)
theorem dX3_replyTo_34 : decode cX3_replyTo 34 = .ok (.iand, 1) := dk_126 (dk_at dksX3_replyTo_1 10 rfl rfl)
theorem dX3_replyTo_35 : decode cX3_replyTo 35 = .ok (.istore 5, 2) := dk_54 5 (dk_at dksX3_replyTo_1 11 rfl rfl)
theorem dX3_replyTo_37 : decode cX3_replyTo 37 = .ok (.iconst 0, 1) := dk_3 (dk_at dksX3_replyTo_1 13 rfl rfl)
theorem dX3_replyTo_38 : decode cX3_replyTo 38 = .ok (.istore 6, 2) := dk_54 6 (dk_at dksX3_replyTo_1 14 rfl rfl)
theorem dX3_replyTo_40 : decode cX3_replyTo 40 = .ok (.iload 5, 2) := dk_21 5 (dk_at dksX3_replyTo_1 16 rfl rfl)
theorem dX3_replyTo_42 : decode cX3_replyTo 42 = .ok (.istore 7, 2) := dk_54 7 (dk_at dksX3_replyTo_1 18 rfl rfl)
theorem dX3_replyTo_44 : decode cX3_replyTo 44 = .ok (.iload 7, 2) := dk_21 7 (dk_at dksX3_replyTo_1 20 rfl rfl)
theorem dX3_replyTo_46 : decode cX3_replyTo 46 = .ok (.ifCond .le 48, 3) := dk_158 0 48 (dk_at dksX3_replyTo_2 0 rfl rfl)
theorem dX3_replyTo_49 : decode cX3_replyTo 49 = .ok (.aload_n 0, 1) := dk_42 (dk_at dksX3_replyTo_2 3 rfl rfl)
theorem dX3_replyTo_50 : decode cX3_replyTo 50 = .ok (.getfield 22, 3) := dk_180 0 22 (dk_at dksX3_replyTo_2 4 rfl rfl)
theorem dX3_replyTo_53 : decode cX3_replyTo 53 = .ok (.iload 7, 2) := dk_21 7 (dk_at dksX3_replyTo_2 7 rfl rfl)
theorem dX3_replyTo_55 : decode cX3_replyTo 55 = .ok (.iaload, 1) := dk_46 (dk_at dksX3_replyTo_2 9 rfl rfl)
theorem dX3_replyTo_56 : decode cX3_replyTo 56 = .ok (.iload 4, 2) := dk_21 4 (dk_at dksX3_replyTo_2 10 rfl rfl)
theorem dX3_replyTo_58 : decode cX3_replyTo 58 = .ok (.if_icmp .gt 20, 3) := dk_163 0 20 (dk_at dksX3_replyTo_2 12 rfl rfl)
theorem dX3_replyTo_61 : decode cX3_replyTo 61 = .ok (.aload_n 0, 1) := dk_42 (dk_at dksX3_replyTo_2 15 rfl rfl)
theorem dX3_replyTo_62 : decode cX3_replyTo 62 = .ok (.iload 7, 2) := dk_21 7 (dk_at dksX3_replyTo_2 16 rfl rfl)
theorem dX3_replyTo_64 : decode cX3_replyTo 64 = .ok (.iload 6, 2) := dk_21 6 (dk_at dksX3_replyTo_2 18 rfl rfl)
theorem dX3_replyTo_66 : decode cX3_replyTo 66 = .ok (.iload_n 3, 1) := dk_29 (dk_at dksX3_replyTo_2 20 rfl rfl)
theorem dX3_replyTo_67 : decode cX3_replyTo 67 = .ok (.invokevirtual 129, 3) := dk_182 0 129 (dk_at dksX3_replyTo_2 21 rfl rfl)
theorem dX3_replyTo_70 : decode cX3_replyTo 70 = .ok (.ifCond .eq 8, 3) := dk_153 0 8 (dk_at dksX3_replyTo_3 0 rfl rfl)
theorem dX3_replyTo_73 : decode cX3_replyTo 73 = .ok (.iload 7, 2) := dk_21 7 (dk_at dksX3_replyTo_3 3 rfl rfl)
theorem dX3_replyTo_75 : decode cX3_replyTo 75 = .ok (.goto 5, 3) := dk_167 0 5 (dk_at dksX3_replyTo_3 5 rfl rfl)
theorem dX3_replyTo_78 : decode cX3_replyTo 78 = .ok (.iload 6, 2) := dk_21 6 (dk_at dksX3_replyTo_3 8 rfl rfl)
theorem dX3_replyTo_80 : decode cX3_replyTo 80 = .ok (.istore 6, 2) := dk_54 6 (dk_at dksX3_replyTo_3 10 rfl rfl)
theorem dX3_replyTo_82 : decode cX3_replyTo 82 = .ok (.iload 7, 2) := dk_21 7 (dk_at dksX3_replyTo_3 12 rfl rfl)
theorem dX3_replyTo_84 : decode cX3_replyTo 84 = .ok (.iconst 1, 1) := dk_4 (dk_at dksX3_replyTo_3 14 rfl rfl)
theorem dX3_replyTo_85 : decode cX3_replyTo 85 = .ok (.isub, 1) := dk_100 (dk_at dksX3_replyTo_3 15 rfl rfl)
theorem dX3_replyTo_86 : decode cX3_replyTo 86 = .ok (.iload 5, 2) := dk_21 5 (dk_at dksX3_replyTo_3 16 rfl rfl)
theorem dX3_replyTo_88 : decode cX3_replyTo 88 = .ok (.iand, 1) := dk_126 (dk_at dksX3_replyTo_3 18 rfl rfl)
theorem dX3_replyTo_89 : decode cX3_replyTo 89 = .ok (.istore 7, 2) := dk_54 7 (dk_at dksX3_replyTo_3 19 rfl rfl)
theorem dX3_replyTo_91 : decode cX3_replyTo 91 = .ok (.goto (-47), 3) := dk_167 255 209 (dk_at dksX3_replyTo_3 21 rfl rfl)
theorem dX3_replyTo_94 : decode cX3_replyTo 94 = .ok (.iload 6, 2) := dk_21 6 (dk_at dksX3_replyTo_4 0 rfl rfl)
theorem dX3_replyTo_96 : decode cX3_replyTo 96 = .ok (.ireturn, 1) := dk_172 (dk_at dksX3_replyTo_4 2 rfl rfl)
/-- PackingDuelModel.replyTo(IIZ)I -/
def zb173 (G : zPg) (C : zO) (args : List Value) (Q : zQ) (Y : zY) (σ : zS) : Prop := ∃ (a0 : Nat) (x1 : Int32) (x2 : Int32) (x3 : Int32), args = [.ref a0, .int x1, .int x2, .int x3] ∧ (zgR σ (some a0) 4 0 (fun v1 => zaI σ 0 v1 (1 : Int32) (fun v13 => zgR σ (some a0) 4 7 (fun v15 => zaI σ 0 v15 x1 (fun v27 => ((x2 ≤ (v13 - v27)) → zrc σ (some a0) 4 (fun a33 => zcl C 159 [.ref a33] Y σ (zqI (fun v30 s31 => (∀ v37 : Int32, v37 = (((1 : Int32) <<< (v30 &&& 31)) - (1 : Int32)) → ∃ n, zIt (fun _ _ _ => False) (fun rec42 (p39 : Int32) (p40 : Int32) (s41 : zS) => ((p40 ≤ 0) → Q (some (.int p39)) s41) ∧ ((¬ p40 ≤ 0) → zgR s41 (some a0) 4 7 (fun v44 => zaI s41 0 v44 p40 (fun v56 => zJ (fun (p58 : Int32) (s59 : zS) => (∀ v61 : Int32, v61 = ((p40 - (1 : Int32)) &&& (v37 &&& (x1 ^^^ (-1 : Int32)))) → rec42 p58 v61 s59)) (fun (j60 : Int32 → zS → Prop) => zJ (fun  (s63 : zS) => j60 p39 s63) (fun (j64 : zS → Prop) => (((v13 - v27) < v56) → j64 s41) ∧ ((¬ (v13 - v27) < v56) → zrc s41 (some a0) 4 (fun a69 => zcl C 174 [.ref a69, .int p40, .int p39, .int x3] Y s41 (zqI (fun v66 s67 => ((v66 = 0) → j64 s67) ∧ ((¬ v66 = 0) → j60 p40 s67))))))))))) n (0 : Int32) (v37 &&& (x1 ^^^ (-1 : Int32))) s31))))) ∧ ((¬ x2 ≤ (v13 - v27)) → Q (some (.int (0 : Int32))) σ))))))
set_option maxHeartbeats 4000000 in
theorem wk173 {l : Launch} {g : zG} {d : Nat} {C : zO} (hG : zGk g) (hC : zSound l g d C) {args : List Value} {Q : zQ} {Y : zY} {σ : zS} (hw : zb173 (zpg g) C args Q Y σ) : zMet l g (d + 1) (⟨"PackingDuelModel", "replyTo", "(IIZ)I"⟩, Cond.code ⟨"PackingDuelModel", "replyTo", "(IIZ)I"⟩ prog_28_method_16_code 8 (Option.some FieldType.int)) args σ Q Y := by
  obtain ⟨a0, x1, x2, x3, rfl, hw⟩ := hw
  refine zof hG (by decide +kernel) [false, false, false, false] ⟨rfl, rfl, rfl, rfl, trivial⟩ (Nat.le_of_ble_eq_true rfl) (ls := [some (va_rf (some a0)), some (.int x1), some (.int x2), some (.int x3), none, none, none, none]) rfl ?_
  intro X hX hR hTb hd1 hd2 hl hg hnm
  subst hl
  subst hg
  have hd : zDep X d := ⟨hd1, hd2⟩
  refine z_aload_n hX dX3_replyTo_0 rfl (i := 0) rfl ?_
  obtain ⟨a2, f3, v1, r4, m5, e6, hw⟩ := hw
  refine z_get hX zc4 (k := 0) dX3_replyTo_1 (Nat.le_of_ble_eq_true rfl) (zlk hX q2469) r4 m5 e6 ?_
  refine z_iconst hX (v := (1 : Int32)) dX3_replyTo_4 (by decide) ?_
  obtain ⟨a7, n8, f9, r10, m11, i12, hw⟩ := hw
  refine z_iald hX dX3_replyTo_5 r10 m11 i12 ?_
  revert hw
  generalize f9 (Int32.toNatClampNeg (1 : Int32)) = v13
  intro hw
  refine z_aload_n hX dX3_replyTo_6 rfl (i := 0) rfl ?_
  obtain ⟨a16, f17, v15, r18, m19, e20, hw⟩ := hw
  refine z_get hX zc4 (k := 7) dX3_replyTo_7 (Nat.le_of_ble_eq_true rfl) (zlk hX q2476) r18 m19 e20 ?_
  refine z_iload_n hX dX3_replyTo_10 rfl (i := 1) rfl ?_
  obtain ⟨a21, n22, f23, r24, m25, i26, hw⟩ := hw
  refine z_iald hX dX3_replyTo_11 r24 m25 i26 ?_
  revert hw
  generalize f23 (Int32.toNatClampNeg x1) = v27
  intro hw
  refine z_isub hX dX3_replyTo_12 ?_
  refine z_istore hX dX3_replyTo_13 (i := 4) (Nat.le_of_ble_eq_true rfl) rfl (ls2 := [some (va_rf (some a0)), some (.int x1), some (.int x2), some (.int x3), some (.int (v13 - v27)), none, none, none]) rfl ?_
  refine z_iload hX dX3_replyTo_15 (i := 4) rfl ?_
  refine z_iload_n hX dX3_replyTo_17 rfl (i := 2) rfl ?_
  refine z_icmp_ge hX dX3_replyTo_18 (tgt := 23) rfl (fun c29 => ?_) (fun c29 => ?_)
  · have hw := hw.1 c29
    refine z_iconst hX (v := (1 : Int32)) dX3_replyTo_23 (by decide) ?_
    refine z_aload_n hX dX3_replyTo_24 rfl (i := 0) rfl ?_
    obtain ⟨a33, f34, r35, m36, hw⟩ := hw
    refine z_invV hX hd r35 (ci := 4) rfl rfl m36 dX3_replyTo_25 (hC 159 _ zm159 _ _ _ _ hw) q2605 q2607 qs46 zh7 q2608 q136 zn159 rfl (Nat.le_of_ble_eq_true rfl) (st := [.int (1 : Int32)]) rfl (zcs8 (Nat.le_of_ble_eq_true rfl)) rfl (zkI (fun v30 s31 hw => ?_)) (zout hX hR hTb)
    refine z_ishl hX dX3_replyTo_28 ?_
    refine z_iconst hX (v := (1 : Int32)) dX3_replyTo_29 (by decide) ?_
    refine z_isub hX dX3_replyTo_30 ?_
    refine z_topi (fun v37 e38 => ?_)
    have hw := hw v37 e38
    refine z_iload_n hX dX3_replyTo_31 rfl (i := 1) rfl ?_
    refine z_iconst hX (v := (-1 : Int32)) dX3_replyTo_32 (by decide) ?_
    refine z_ixor hX dX3_replyTo_33 ?_
    refine z_iand hX dX3_replyTo_34 ?_
    refine z_istore hX dX3_replyTo_35 (i := 5) (Nat.le_of_ble_eq_true rfl) rfl (ls2 := [some (va_rf (some a0)), some (.int x1), some (.int x2), some (.int x3), some (.int (v13 - v27)), some (.int (v37 &&& (x1 ^^^ (-1 : Int32)))), none, none]) rfl ?_
    refine z_iconst hX (v := (0 : Int32)) dX3_replyTo_37 (by decide) ?_
    refine z_istore hX dX3_replyTo_38 (i := 6) (Nat.le_of_ble_eq_true rfl) rfl (ls2 := [some (va_rf (some a0)), some (.int x1), some (.int x2), some (.int x3), some (.int (v13 - v27)), some (.int (v37 &&& (x1 ^^^ (-1 : Int32)))), some (.int (0 : Int32)), none]) rfl ?_
    refine z_iload hX dX3_replyTo_40 (i := 5) rfl ?_
    refine z_istore hX dX3_replyTo_42 (i := 7) (Nat.le_of_ble_eq_true rfl) rfl (ls2 := [some (va_rf (some a0)), some (.int x1), some (.int x2), some (.int x3), some (.int (v13 - v27)), some (.int (v37 &&& (x1 ^^^ (-1 : Int32)))), some (.int (0 : Int32)), some (.int (v37 &&& (x1 ^^^ (-1 : Int32))))]) rfl ?_
    obtain ⟨n74, hw⟩ := hw
    refine z_sub (ls' := [some (va_rf (some a0)), none, none, some (.int x3), some (.int (v13 - v27)), some (.int (v37 &&& (x1 ^^^ (-1 : Int32)))), some (.int (0 : Int32)), some (.int (v37 &&& (x1 ^^^ (-1 : Int32))))]) (zsS (zsN (zsN (zsS (zsS (zsS (zsS (zsS (zs0))))))))) ?_
    refine zIt_w (P := fun (j : Int32 → Int32 → zS → Prop) => ∀ (p39 : Int32) (p40 : Int32) (s41 : zS), j p39 p40 s41 → zW X s41 44 [some (va_rf (some a0)), none, none, some (.int x3), some (.int (v13 - v27)), some (.int (v37 &&& (x1 ^^^ (-1 : Int32)))), some (.int p39), some (.int p40)] []) (fun _ _ _ h => h.elim) (fun rec42 hrec42 p39 p40 s41 hw => ?_) n74 _ _ _ hw
    refine z_iload hX dX3_replyTo_44 (i := 7) rfl ?_
    refine z_if_le hX dX3_replyTo_46 (tgt := 94) rfl (fun c43 => ?_) (fun c43 => ?_)
    · have hw := hw.1 c43
      refine z_iload hX dX3_replyTo_94 (i := 6) rfl ?_
      exact z_ireturn hX hR dX3_replyTo_96 rfl hw
    · have hw := hw.2 c43
      refine z_aload_n hX dX3_replyTo_49 rfl (i := 0) rfl ?_
      obtain ⟨a45, f46, v44, r47, m48, e49, hw⟩ := hw
      refine z_get hX zc4 (k := 7) dX3_replyTo_50 (Nat.le_of_ble_eq_true rfl) (zlk hX q2476) r47 m48 e49 ?_
      refine z_iload hX dX3_replyTo_53 (i := 7) rfl ?_
      obtain ⟨a50, n51, f52, r53, m54, i55, hw⟩ := hw
      refine z_iald hX dX3_replyTo_55 r53 m54 i55 ?_
      revert hw
      generalize f52 (Int32.toNatClampNeg p40) = v56
      intro hw
      refine z_iload hX dX3_replyTo_56 (i := 4) rfl ?_
      refine zJ_w (P := fun (j : Int32 → zS → Prop) => ∀ (p58 : Int32) (s59 : zS), j p58 s59 → zW X s59 80 [some (va_rf (some a0)), none, none, some (.int x3), some (.int (v13 - v27)), some (.int (v37 &&& (x1 ^^^ (-1 : Int32)))), none, some (.int p40)] [.int p58]) hw (fun p58 s59 hw => ?_) (fun j60 hj60 hw => ?_)
      · refine z_istore hX dX3_replyTo_80 (i := 6) (Nat.le_of_ble_eq_true rfl) rfl (ls2 := [some (va_rf (some a0)), none, none, some (.int x3), some (.int (v13 - v27)), some (.int (v37 &&& (x1 ^^^ (-1 : Int32)))), some (.int p58), some (.int p40)]) rfl ?_
        refine z_iload hX dX3_replyTo_82 (i := 7) rfl ?_
        refine z_iconst hX (v := (1 : Int32)) dX3_replyTo_84 (by decide) ?_
        refine z_isub hX dX3_replyTo_85 ?_
        refine z_iload hX dX3_replyTo_86 (i := 5) rfl ?_
        refine z_iand hX dX3_replyTo_88 ?_
        refine z_topi (fun v61 e62 => ?_)
        have hw := hw v61 e62
        refine z_istore hX dX3_replyTo_89 (i := 7) (Nat.le_of_ble_eq_true rfl) rfl (ls2 := [some (va_rf (some a0)), none, none, some (.int x3), some (.int (v13 - v27)), some (.int (v37 &&& (x1 ^^^ (-1 : Int32)))), some (.int p58), some (.int v61)]) rfl ?_
        refine z_goto hX dX3_replyTo_91 (tgt := 44) rfl ?_
        exact hrec42 _ _ _ hw
      · refine zJ_w (P := fun (j : zS → Prop) => ∀  (s63 : zS), j  s63 → zW X s63 78 [some (va_rf (some a0)), none, none, some (.int x3), some (.int (v13 - v27)), some (.int (v37 &&& (x1 ^^^ (-1 : Int32)))), some (.int p39), some (.int p40)] []) hw (fun  s63 hw => ?_) (fun j64 hj64 hw => ?_)
        · refine z_iload hX dX3_replyTo_78 (i := 6) rfl ?_
          refine z_sub (ls' := [some (va_rf (some a0)), none, none, some (.int x3), some (.int (v13 - v27)), some (.int (v37 &&& (x1 ^^^ (-1 : Int32)))), none, some (.int p40)]) (zsS (zsN (zsN (zsS (zsS (zsS (zsN (zsS (zs0))))))))) ?_
          exact hj60 _ _ hw
        · refine z_icmp_gt hX dX3_replyTo_58 (tgt := 78) rfl (fun c65 => ?_) (fun c65 => ?_)
          · have hw := hw.1 c65
            exact hj64  _ hw
          · have hw := hw.2 c65
            refine z_aload_n hX dX3_replyTo_61 rfl (i := 0) rfl ?_
            refine z_iload hX dX3_replyTo_62 (i := 7) rfl ?_
            refine z_iload hX dX3_replyTo_64 (i := 6) rfl ?_
            refine z_iload_n hX dX3_replyTo_66 rfl (i := 3) rfl ?_
            obtain ⟨a69, f70, r71, m72, hw⟩ := hw
            refine z_invV hX hd r71 (ci := 4) rfl rfl m72 dX3_replyTo_67 (hC 174 _ zm174 _ _ _ _ hw) q2663 q2665 qs56 zh7 q2666 q136 zn174 rfl (Nat.le_of_ble_eq_true rfl) (st := []) rfl (zcs8 (Nat.le_of_ble_eq_true rfl)) rfl (zkI (fun v66 s67 hw => ?_)) (zout hX hR hTb)
            refine z_if_eq hX dX3_replyTo_70 (tgt := 78) rfl (fun c73 => ?_) (fun c73 => ?_)
            · have hw := hw.1 c73
              exact hj64  _ hw
            · have hw := hw.2 c73
              refine z_iload hX dX3_replyTo_73 (i := 7) rfl ?_
              refine z_goto hX dX3_replyTo_75 (tgt := 80) rfl ?_
              refine z_sub (ls' := [some (va_rf (some a0)), none, none, some (.int x3), some (.int (v13 - v27)), some (.int (v37 &&& (x1 ^^^ (-1 : Int32)))), none, some (.int p40)]) (zsS (zsN (zsN (zsS (zsS (zsS (zsN (zsS (zs0))))))))) ?_
              exact hj60 _ _ hw
  · have hw := hw.2 c29
    refine z_iconst hX (v := (0 : Int32)) dX3_replyTo_21 (by decide) ?_
    exact z_ireturn hX hR dX3_replyTo_22 rfl hw
abbrev cX3_isRather : ByteArray := prog_28_method_15_code
def yX3_isRather : MethodName := ⟨RX3, "isRather", "(IIZ)Z"⟩
def dkwX3_isRather_3 : List UInt8 := [21, 6, 157, 0, 13, 21, 6, 154, 0, 12, 27, 28, 162, 0, 7, 4, 167, 0, 4, 3, 172]
abbrev dktX3_isRather_3 : List UInt8 := dkwX3_isRather_3 ++ []
def dkwX3_isRather_2 : List UInt8 := [29, 153, 0, 19, 42, 180, 0, 9, 6, 46, 4, 160, 0, 9, 21, 5, 116, 167, 0, 5, 21, 5, 54, 6]
abbrev dktX3_isRather_2 : List UInt8 := dkwX3_isRather_2 ++ dktX3_isRather_3
def dkwX3_isRather_1 : List UInt8 := [180, 0, 31, 27, 46, 42, 180, 0, 31, 28, 46, 100, 54, 5, 21, 4, 153, 0, 8, 21, 4, 167, 0, 25]
abbrev dktX3_isRather_1 : List UInt8 := dkwX3_isRather_1 ++ dktX3_isRather_2
def dkwX3_isRather_0 : List UInt8 := [29, 153, 0, 19, 42, 180, 0, 28, 27, 46, 42, 180, 0, 28, 28, 46, 100, 167, 0, 4, 3, 54, 4, 42]
abbrev dktX3_isRather_0 : List UInt8 := dkwX3_isRather_0 ++ dktX3_isRather_1
theorem dksX3_isRather_0 : cX3_isRather.data.toList.drop 0 = dktX3_isRather_0 := by decide +kernel
theorem dksX3_isRather_1 : cX3_isRather.data.toList.drop 24 = dktX3_isRather_1 := dk_seg dksX3_isRather_0 24 rfl rfl
theorem dksX3_isRather_2 : cX3_isRather.data.toList.drop 48 = dktX3_isRather_2 := dk_seg dksX3_isRather_1 24 rfl rfl
theorem dksX3_isRather_3 : cX3_isRather.data.toList.drop 72 = dktX3_isRather_3 := dk_seg dksX3_isRather_2 24 rfl rfl
theorem dX3_isRather_0 : decode cX3_isRather 0 = .ok (.iload_n 3, 1) := dk_29 (dk_at dksX3_isRather_0 0 rfl rfl)
theorem dX3_isRather_1 : decode cX3_isRather 1 = .ok (.ifCond .eq 19, 3) := dk_153 0 19 (dk_at dksX3_isRather_0 1 rfl rfl)
theorem dX3_isRather_4 : decode cX3_isRather 4 = .ok (.aload_n 0, 1) := dk_42 (dk_at dksX3_isRather_0 4 rfl rfl)
theorem dX3_isRather_5 : decode cX3_isRather 5 = .ok (.getfield 28, 3) := dk_180 0 28 (dk_at dksX3_isRather_0 5 rfl rfl)
theorem dX3_isRather_8 : decode cX3_isRather 8 = .ok (.iload_n 1, 1) := dk_27 (dk_at dksX3_isRather_0 8 rfl rfl)
theorem dX3_isRather_9 : decode cX3_isRather 9 = .ok (.iaload, 1) := dk_46 (dk_at dksX3_isRather_0 9 rfl rfl)
theorem dX3_isRather_10 : decode cX3_isRather 10 = .ok (.aload_n 0, 1) := dk_42 (dk_at dksX3_isRather_0 10 rfl rfl)
theorem dX3_isRather_11 : decode cX3_isRather 11 = .ok (.getfield 28, 3) := dk_180 0 28 (dk_at dksX3_isRather_0 11 rfl rfl)
theorem dX3_isRather_14 : decode cX3_isRather 14 = .ok (.iload_n 2, 1) := dk_28 (dk_at dksX3_isRather_0 14 rfl rfl)
theorem dX3_isRather_15 : decode cX3_isRather 15 = .ok (.iaload, 1) := dk_46 (dk_at dksX3_isRather_0 15 rfl rfl)
theorem dX3_isRather_16 : decode cX3_isRather 16 = .ok (.isub, 1) := dk_100 (dk_at dksX3_isRather_0 16 rfl rfl)
theorem dX3_isRather_17 : decode cX3_isRather 17 = .ok (.goto 4, 3) := dk_167 0 4 (dk_at dksX3_isRather_0 17 rfl rfl)
theorem dX3_isRather_20 : decode cX3_isRather 20 = .ok (.iconst 0, 1) := dk_3 (dk_at dksX3_isRather_0 20 rfl rfl)
theorem dX3_isRather_21 : decode cX3_isRather 21 = .ok (.istore 4, 2) := dk_54 4 (dk_at dksX3_isRather_0 21 rfl rfl)
theorem dX3_isRather_23 : decode cX3_isRather 23 = .ok (.aload_n 0, 1) := dk_42 (dk_at dksX3_isRather_0 23 rfl rfl)
theorem dX3_isRather_24 : decode cX3_isRather 24 = .ok (.getfield 31, 3) := dk_180 0 31 (dk_at dksX3_isRather_1 0 rfl rfl)
theorem dX3_isRather_27 : decode cX3_isRather 27 = .ok (.iload_n 1, 1) := dk_27 (dk_at dksX3_isRather_1 3 rfl rfl)
theorem dX3_isRather_28 : decode cX3_isRather 28 = .ok (.iaload, 1) := dk_46 (dk_at dksX3_isRather_1 4 rfl rfl)
theorem dX3_isRather_29 : decode cX3_isRather 29 = .ok (.aload_n 0, 1) := dk_42 (dk_at dksX3_isRather_1 5 rfl rfl)
theorem dX3_isRather_30 : decode cX3_isRather 30 = .ok (.getfield 31, 3) := dk_180 0 31 (dk_at dksX3_isRather_1 6 rfl rfl)
theorem dX3_isRather_33 : decode cX3_isRather 33 = .ok (.iload_n 2, 1) := dk_28 (dk_at dksX3_isRather_1 9 rfl rfl)
theorem dX3_isRather_34 : decode cX3_isRather 34 = .ok (.iaload, 1) := dk_46 (dk_at dksX3_isRather_1 10 rfl rfl)
theorem dX3_isRather_35 : decode cX3_isRather 35 = .ok (.isub, 1) := dk_100 (dk_at dksX3_isRather_1 11 rfl rfl)
theorem dX3_isRather_36 : decode cX3_isRather 36 = .ok (.istore 5, 2) := dk_54 5 (dk_at dksX3_isRather_1 12 rfl rfl)
theorem dX3_isRather_38 : decode cX3_isRather 38 = .ok (.iload 4, 2) := dk_21 4 (dk_at dksX3_isRather_1 14 rfl rfl)
theorem dX3_isRather_40 : decode cX3_isRather 40 = .ok (.ifCond .eq 8, 3) := dk_153 0 8 (dk_at dksX3_isRather_1 16 rfl rfl)
theorem dX3_isRather_43 : decode cX3_isRather 43 = .ok (.iload 4, 2) := dk_21 4 (dk_at dksX3_isRather_1 19 rfl rfl)
theorem dX3_isRather_45 : decode cX3_isRather 45 = .ok (.goto 25, 3) := dk_167 0 25 (dk_at dksX3_isRather_1 21 rfl rfl)
theorem dX3_isRather_48 : decode cX3_isRather 48 = .ok (.iload_n 3, 1) := dk_29 (dk_at dksX3_isRather_2 0 rfl rfl)
theorem dX3_isRather_49 : decode cX3_isRather 49 = .ok (.ifCond .eq 19, 3) := dk_153 0 19 (dk_at dksX3_isRather_2 1 rfl rfl)
theorem dX3_isRather_52 : decode cX3_isRather 52 = .ok (.aload_n 0, 1) := dk_42 (dk_at dksX3_isRather_2 4 rfl rfl)
theorem dX3_isRather_53 : decode cX3_isRather 53 = .ok (.getfield 9, 3) := dk_180 0 9 (dk_at dksX3_isRather_2 5 rfl rfl)
theorem dX3_isRather_56 : decode cX3_isRather 56 = .ok (.iconst 3, 1) := dk_6 (dk_at dksX3_isRather_2 8 rfl rfl)
theorem dX3_isRather_57 : decode cX3_isRather 57 = .ok (.iaload, 1) := dk_46 (dk_at dksX3_isRather_2 9 rfl rfl)
theorem dX3_isRather_58 : decode cX3_isRather 58 = .ok (.iconst 1, 1) := dk_4 (dk_at dksX3_isRather_2 10 rfl rfl)
theorem dX3_isRather_59 : decode cX3_isRather 59 = .ok (.if_icmp .ne 9, 3) := dk_160 0 9 (dk_at dksX3_isRather_2 11 rfl rfl)
theorem dX3_isRather_62 : decode cX3_isRather 62 = .ok (.iload 5, 2) := dk_21 5 (dk_at dksX3_isRather_2 14 rfl rfl)
theorem dX3_isRather_64 : decode cX3_isRather 64 = .ok (.ineg, 1) := dk_116 (dk_at dksX3_isRather_2 16 rfl rfl)
theorem dX3_isRather_65 : decode cX3_isRather 65 = .ok (.goto 5, 3) := dk_167 0 5 (dk_at dksX3_isRather_2 17 rfl rfl)
theorem dX3_isRather_68 : decode cX3_isRather 68 = .ok (.iload 5, 2) := dk_21 5 (dk_at dksX3_isRather_2 20 rfl rfl)
theorem dX3_isRather_70 : decode cX3_isRather 70 = .ok (.istore 6, 2) := dk_54 6 (dk_at dksX3_isRather_2 22 rfl rfl)
theorem dX3_isRather_72 : decode cX3_isRather 72 = .ok (.iload 6, 2) := dk_21 6 (dk_at dksX3_isRather_3 0 rfl rfl)
theorem dX3_isRather_74 : decode cX3_isRather 74 = .ok (.ifCond .gt 13, 3) := dk_157 0 13 (dk_at dksX3_isRather_3 2 rfl rfl)
theorem dX3_isRather_77 : decode cX3_isRather 77 = .ok (.iload 6, 2) := dk_21 6 (dk_at dksX3_isRather_3 5 rfl rfl)
theorem dX3_isRather_79 : decode cX3_isRather 79 = .ok (.ifCond .ne 12, 3) := dk_154 0 12 (dk_at dksX3_isRather_3 7 rfl rfl)
theorem dX3_isRather_82 : decode cX3_isRather 82 = .ok (.iload_n 1, 1) := dk_27 (dk_at dksX3_isRather_3 10 rfl rfl)
theorem dX3_isRather_83 : decode cX3_isRather 83 = .ok (.iload_n 2, 1) := dk_28 (dk_at dksX3_isRather_3 11 rfl rfl)
theorem dX3_isRather_84 : decode cX3_isRather 84 = .ok (.if_icmp .ge 7, 3) := dk_162 0 7 (dk_at dksX3_isRather_3 12 rfl rfl)
theorem dX3_isRather_87 : decode cX3_isRather 87 = .ok (.iconst 1, 1) := dk_4 (dk_at dksX3_isRather_3 15 rfl rfl)
theorem dX3_isRather_88 : decode cX3_isRather 88 = .ok (.goto 4, 3) := dk_167 0 4 (dk_at dksX3_isRather_3 16 rfl rfl)
theorem dX3_isRather_91 : decode cX3_isRather 91 = .ok (.iconst 0, 1) := dk_3 (dk_at dksX3_isRather_3 19 rfl rfl)
theorem dX3_isRather_92 : decode cX3_isRather 92 = .ok (.ireturn, 1) := dk_172 (dk_at dksX3_isRather_3 20 rfl rfl)
/-- PackingDuelModel.isRather(IIZ)Z -/
def zb174 (G : zPg) (C : zO) (args : List Value) (Q : zQ) (Y : zY) (σ : zS) : Prop := ∃ (a0 : Nat) (x1 : Int32) (x2 : Int32) (x3 : Int32), args = [.ref a0, .int x1, .int x2, .int x3] ∧ (zJ (fun (p1 : Int32) (s2 : zS) => zgR s2 (some a0) 4 10 (fun v4 => zaI s2 0 v4 x1 (fun v16 => zgR s2 (some a0) 4 10 (fun v18 => zaI s2 0 v18 x2 (fun v30 => zJ (fun (p32 : Int32) (s33 : zS) => zJ (fun (p35 : Int32) (s36 : zS) => zbool p35 ∧ Q (some (.int p35)) s36) (fun (j37 : Int32 → zS → Prop) => zJ (fun  (s38 : zS) => j37 (1 : Int32) s38) (fun (j39 : zS → Prop) => ((0 < p32) → j39 s33) ∧ ((¬ 0 < p32) → zJ (fun  (s41 : zS) => j37 (0 : Int32) s41) (fun (j42 : zS → Prop) => ((¬ p32 = 0) → j42 s33) ∧ ((p32 = 0) → ((x2 ≤ x1) → j42 s33) ∧ ((¬ x2 ≤ x1) → j39 s33))))))) (fun (j34 : Int32 → zS → Prop) => ((p1 = 0) → zJ (fun  (s46 : zS) => j34 (v16 - v30) s46) (fun (j47 : zS → Prop) => ((x3 = 0) → j47 s2) ∧ ((¬ x3 = 0) → zgR s2 (some a0) 4 0 (fun v49 => zaI s2 0 v49 (3 : Int32) (fun v61 => ((¬ v61 = (1 : Int32)) → j47 s2) ∧ ((v61 = (1 : Int32)) → j34 (-(v16 - v30)) s2)))))) ∧ ((¬ p1 = 0) → j34 p1 s2))))))) (fun (j3 : Int32 → zS → Prop) => ((x3 = 0) → j3 (0 : Int32) σ) ∧ ((¬ x3 = 0) → zgR σ (some a0) 4 9 (fun v65 => zaI σ 0 v65 x1 (fun v77 => zgR σ (some a0) 4 9 (fun v79 => zaI σ 0 v79 x2 (fun v91 => j3 (v77 - v91) σ)))))))
set_option maxHeartbeats 4000000 in
theorem wk174 {l : Launch} {g : zG} {d : Nat} {C : zO} (hG : zGk g) (hC : zSound l g d C) {args : List Value} {Q : zQ} {Y : zY} {σ : zS} (hw : zb174 (zpg g) C args Q Y σ) : zMet l g (d + 1) (⟨"PackingDuelModel", "isRather", "(IIZ)Z"⟩, Cond.code ⟨"PackingDuelModel", "isRather", "(IIZ)Z"⟩ prog_28_method_15_code 7 (Option.some FieldType.boolean)) args σ Q Y := by
  obtain ⟨a0, x1, x2, x3, rfl, hw⟩ := hw
  refine zof hG (by decide +kernel) [false, false, false, false] ⟨rfl, rfl, rfl, rfl, trivial⟩ (Nat.le_of_ble_eq_true rfl) (ls := [some (va_rf (some a0)), some (.int x1), some (.int x2), some (.int x3), none, none, none]) rfl ?_
  intro X hX hR hTb hd1 hd2 hl hg hnm
  subst hl
  subst hg
  have hd : zDep X d := ⟨hd1, hd2⟩
  refine z_iload_n hX dX3_isRather_0 rfl (i := 3) rfl ?_
  refine zJ_w (P := fun (j : Int32 → zS → Prop) => ∀ (p1 : Int32) (s2 : zS), j p1 s2 → zW X s2 21 [some (va_rf (some a0)), some (.int x1), some (.int x2), some (.int x3), none, none, none] [.int p1]) hw (fun p1 s2 hw => ?_) (fun j3 hj3 hw => ?_)
  · refine z_istore hX dX3_isRather_21 (i := 4) (Nat.le_of_ble_eq_true rfl) rfl (ls2 := [some (va_rf (some a0)), some (.int x1), some (.int x2), some (.int x3), some (.int p1), none, none]) rfl ?_
    refine z_aload_n hX dX3_isRather_23 rfl (i := 0) rfl ?_
    obtain ⟨a5, f6, v4, r7, m8, e9, hw⟩ := hw
    refine z_get hX zc4 (k := 10) dX3_isRather_24 (Nat.le_of_ble_eq_true rfl) (zlk hX q2479) r7 m8 e9 ?_
    refine z_iload_n hX dX3_isRather_27 rfl (i := 1) rfl ?_
    obtain ⟨a10, n11, f12, r13, m14, i15, hw⟩ := hw
    refine z_iald hX dX3_isRather_28 r13 m14 i15 ?_
    revert hw
    generalize f12 (Int32.toNatClampNeg x1) = v16
    intro hw
    refine z_aload_n hX dX3_isRather_29 rfl (i := 0) rfl ?_
    obtain ⟨a19, f20, v18, r21, m22, e23, hw⟩ := hw
    refine z_get hX zc4 (k := 10) dX3_isRather_30 (Nat.le_of_ble_eq_true rfl) (zlk hX q2479) r21 m22 e23 ?_
    refine z_iload_n hX dX3_isRather_33 rfl (i := 2) rfl ?_
    obtain ⟨a24, n25, f26, r27, m28, i29, hw⟩ := hw
    refine z_iald hX dX3_isRather_34 r27 m28 i29 ?_
    revert hw
    generalize f26 (Int32.toNatClampNeg x2) = v30
    intro hw
    refine z_isub hX dX3_isRather_35 ?_
    refine z_istore hX dX3_isRather_36 (i := 5) (Nat.le_of_ble_eq_true rfl) rfl (ls2 := [some (va_rf (some a0)), some (.int x1), some (.int x2), some (.int x3), some (.int p1), some (.int (v16 - v30)), none]) rfl ?_
    refine z_iload hX dX3_isRather_38 (i := 4) rfl ?_
    refine zJ_w (P := fun (j : Int32 → zS → Prop) => ∀ (p32 : Int32) (s33 : zS), j p32 s33 → zW X s33 70 [none, some (.int x1), some (.int x2), none, none, none, none] [.int p32]) hw (fun p32 s33 hw => ?_) (fun j34 hj34 hw => ?_)
    · refine z_istore hX dX3_isRather_70 (i := 6) (Nat.le_of_ble_eq_true rfl) trivial (ls2 := [none, some (.int x1), some (.int x2), none, none, none, some (.int p32)]) rfl ?_
      refine z_iload hX dX3_isRather_72 (i := 6) rfl ?_
      refine zJ_w (P := fun (j : Int32 → zS → Prop) => ∀ (p35 : Int32) (s36 : zS), j p35 s36 → zW X s36 92 [none, none, none, none, none, none, none] [.int p35]) hw (fun p35 s36 hw => ?_) (fun j37 hj37 hw => ?_)
      · exact z_ireturn hX hR dX3_isRather_92 (zn_z hw.1) hw.2
      · refine zJ_w (P := fun (j : zS → Prop) => ∀  (s38 : zS), j  s38 → zW X s38 87 [none, none, none, none, none, none, none] []) hw (fun  s38 hw => ?_) (fun j39 hj39 hw => ?_)
        · refine z_iconst hX (v := (1 : Int32)) dX3_isRather_87 (by decide) ?_
          refine z_goto hX dX3_isRather_88 (tgt := 92) rfl ?_
          exact hj37 _ _ hw
        · refine z_if_gt hX dX3_isRather_74 (tgt := 87) rfl (fun c40 => ?_) (fun c40 => ?_)
          · have hw := hw.1 c40
            refine z_sub (ls' := [none, none, none, none, none, none, none]) (zsN (zsN (zsN (zsN (zsN (zsN (zsN (zs0)))))))) ?_
            exact hj39  _ hw
          · have hw := hw.2 c40
            refine z_iload hX dX3_isRather_77 (i := 6) rfl ?_
            refine zJ_w (P := fun (j : zS → Prop) => ∀  (s41 : zS), j  s41 → zW X s41 91 [none, none, none, none, none, none, none] []) hw (fun  s41 hw => ?_) (fun j42 hj42 hw => ?_)
            · refine z_iconst hX (v := (0 : Int32)) dX3_isRather_91 (by decide) ?_
              exact hj37 _ _ hw
            · refine z_if_ne hX dX3_isRather_79 (tgt := 91) rfl (fun c43 => ?_) (fun c43 => ?_)
              · have hw := hw.1 c43
                refine z_sub (ls' := [none, none, none, none, none, none, none]) (zsN (zsN (zsN (zsN (zsN (zsN (zsN (zs0)))))))) ?_
                exact hj42  _ hw
              · have hw := hw.2 c43
                refine z_iload_n hX dX3_isRather_82 rfl (i := 1) rfl ?_
                refine z_iload_n hX dX3_isRather_83 rfl (i := 2) rfl ?_
                refine z_icmp_ge hX dX3_isRather_84 (tgt := 91) rfl (fun c44 => ?_) (fun c44 => ?_)
                · have hw := hw.1 c44
                  refine z_sub (ls' := [none, none, none, none, none, none, none]) (zsN (zsN (zsN (zsN (zsN (zsN (zsN (zs0)))))))) ?_
                  exact hj42  _ hw
                · have hw := hw.2 c44
                  refine z_sub (ls' := [none, none, none, none, none, none, none]) (zsN (zsN (zsN (zsN (zsN (zsN (zsN (zs0)))))))) ?_
                  exact hj39  _ hw
    · refine z_if_eq hX dX3_isRather_40 (tgt := 48) rfl (fun c45 => ?_) (fun c45 => ?_)
      · have hw := hw.1 c45
        refine z_iload_n hX dX3_isRather_48 rfl (i := 3) rfl ?_
        refine zJ_w (P := fun (j : zS → Prop) => ∀  (s46 : zS), j  s46 → zW X s46 68 [none, some (.int x1), some (.int x2), none, none, some (.int (v16 - v30)), none] []) hw (fun  s46 hw => ?_) (fun j47 hj47 hw => ?_)
        · refine z_iload hX dX3_isRather_68 (i := 5) rfl ?_
          refine z_sub (ls' := [none, some (.int x1), some (.int x2), none, none, none, none]) (zsN (zsS (zsS (zsN (zsN (zsN (zsN (zs0)))))))) ?_
          exact hj34 _ _ hw
        · refine z_if_eq hX dX3_isRather_49 (tgt := 68) rfl (fun c48 => ?_) (fun c48 => ?_)
          · have hw := hw.1 c48
            refine z_sub (ls' := [none, some (.int x1), some (.int x2), none, none, some (.int (v16 - v30)), none]) (zsN (zsS (zsS (zsN (zsN (zsS (zsN (zs0)))))))) ?_
            exact hj47  _ hw
          · have hw := hw.2 c48
            refine z_aload_n hX dX3_isRather_52 rfl (i := 0) rfl ?_
            obtain ⟨a50, f51, v49, r52, m53, e54, hw⟩ := hw
            refine z_get hX zc4 (k := 0) dX3_isRather_53 (Nat.le_of_ble_eq_true rfl) (zlk hX q2469) r52 m53 e54 ?_
            refine z_iconst hX (v := (3 : Int32)) dX3_isRather_56 (by decide) ?_
            obtain ⟨a55, n56, f57, r58, m59, i60, hw⟩ := hw
            refine z_iald hX dX3_isRather_57 r58 m59 i60 ?_
            revert hw
            generalize f57 (Int32.toNatClampNeg (3 : Int32)) = v61
            intro hw
            refine z_iconst hX (v := (1 : Int32)) dX3_isRather_58 (by decide) ?_
            refine z_icmp_ne hX dX3_isRather_59 (tgt := 68) rfl (fun c63 => ?_) (fun c63 => ?_)
            · have hw := hw.1 c63
              refine z_sub (ls' := [none, some (.int x1), some (.int x2), none, none, some (.int (v16 - v30)), none]) (zsN (zsS (zsS (zsN (zsN (zsS (zsN (zs0)))))))) ?_
              exact hj47  _ hw
            · have hw := hw.2 c63
              refine z_iload hX dX3_isRather_62 (i := 5) rfl ?_
              refine z_ineg hX dX3_isRather_64 ?_
              refine z_goto hX dX3_isRather_65 (tgt := 70) rfl ?_
              refine z_sub (ls' := [none, some (.int x1), some (.int x2), none, none, none, none]) (zsN (zsS (zsS (zsN (zsN (zsN (zsN (zs0)))))))) ?_
              exact hj34 _ _ hw
      · have hw := hw.2 c45
        refine z_iload hX dX3_isRather_43 (i := 4) rfl ?_
        refine z_goto hX dX3_isRather_45 (tgt := 70) rfl ?_
        refine z_sub (ls' := [none, some (.int x1), some (.int x2), none, none, none, none]) (zsN (zsS (zsS (zsN (zsN (zsN (zsN (zs0)))))))) ?_
        exact hj34 _ _ hw
  · refine z_if_eq hX dX3_isRather_1 (tgt := 20) rfl (fun c64 => ?_) (fun c64 => ?_)
    · have hw := hw.1 c64
      refine z_iconst hX (v := (0 : Int32)) dX3_isRather_20 (by decide) ?_
      exact hj3 _ _ hw
    · have hw := hw.2 c64
      refine z_aload_n hX dX3_isRather_4 rfl (i := 0) rfl ?_
      obtain ⟨a66, f67, v65, r68, m69, e70, hw⟩ := hw
      refine z_get hX zc4 (k := 9) dX3_isRather_5 (Nat.le_of_ble_eq_true rfl) (zlk hX q2478) r68 m69 e70 ?_
      refine z_iload_n hX dX3_isRather_8 rfl (i := 1) rfl ?_
      obtain ⟨a71, n72, f73, r74, m75, i76, hw⟩ := hw
      refine z_iald hX dX3_isRather_9 r74 m75 i76 ?_
      revert hw
      generalize f73 (Int32.toNatClampNeg x1) = v77
      intro hw
      refine z_aload_n hX dX3_isRather_10 rfl (i := 0) rfl ?_
      obtain ⟨a80, f81, v79, r82, m83, e84, hw⟩ := hw
      refine z_get hX zc4 (k := 9) dX3_isRather_11 (Nat.le_of_ble_eq_true rfl) (zlk hX q2478) r82 m83 e84 ?_
      refine z_iload_n hX dX3_isRather_14 rfl (i := 2) rfl ?_
      obtain ⟨a85, n86, f87, r88, m89, i90, hw⟩ := hw
      refine z_iald hX dX3_isRather_15 r88 m89 i90 ?_
      revert hw
      generalize f87 (Int32.toNatClampNeg x2) = v91
      intro hw
      refine z_isub hX dX3_isRather_16 ?_
      refine z_goto hX dX3_isRather_17 (tgt := 21) rfl ?_
      exact hj3 _ _ hw
abbrev cX3_result : ByteArray := prog_28_method_68_code
def yX3_result : MethodName := ⟨RX3, "result", "(I)I"⟩
def dkwX3_result_1 : List UInt8 := [180, 0, 25, 27, 46, 42, 180, 0, 31, 42, 27, 42, 180, 0, 9, 5, 46, 4, 182, 0, 139, 46, 100, 172]
abbrev dktX3_result_1 : List UInt8 := dkwX3_result_1 ++ []
def dkwX3_result_0 : List UInt8 := [42, 3, 181, 0, 103, 42, 27, 182, 1, 39, 154, 0, 9, 42, 4, 182, 1, 33, 172, 42, 182, 0, 133, 42]
abbrev dktX3_result_0 : List UInt8 := dkwX3_result_0 ++ dktX3_result_1
theorem dksX3_result_0 : cX3_result.data.toList.drop 0 = dktX3_result_0 := by decide +kernel
theorem dksX3_result_1 : cX3_result.data.toList.drop 24 = dktX3_result_1 := dk_seg dksX3_result_0 24 rfl rfl
theorem dX3_result_0 : decode cX3_result 0 = .ok (.aload_n 0, 1) := dk_42 (dk_at dksX3_result_0 0 rfl rfl)
theorem dX3_result_1 : decode cX3_result 1 = .ok (.iconst 0, 1) := dk_3 (dk_at dksX3_result_0 1 rfl rfl)
theorem dX3_result_2 : decode cX3_result 2 = .ok (.putfield 103, 3) := dk_181 0 103 (dk_at dksX3_result_0 2 rfl rfl)
theorem dX3_result_5 : decode cX3_result 5 = .ok (.aload_n 0, 1) := dk_42 (dk_at dksX3_result_0 5 rfl rfl)
theorem dX3_result_6 : decode cX3_result 6 = .ok (.iload_n 1, 1) := dk_27 (dk_at dksX3_result_0 6 rfl rfl)
theorem dX3_result_7 : decode cX3_result 7 = .ok (.invokevirtual 295, 3) := dk_182 1 39 (dk_at dksX3_result_0 7 rfl rfl)
theorem dX3_result_10 : decode cX3_result 10 = .ok (.ifCond .ne 9, 3) := dk_154 0 9 (dk_at dksX3_result_0 10 rfl rfl)
theorem dX3_result_13 : decode cX3_result 13 = .ok (.aload_n 0, 1) := dk_42 (dk_at dksX3_result_0 13 rfl rfl)
theorem dX3_result_14 : decode cX3_result 14 = .ok (.iconst 1, 1) := dk_4 (dk_at dksX3_result_0 14 rfl rfl)
theorem dX3_result_15 : decode cX3_result 15 = .ok (.invokevirtual 289, 3) := dk_182 1 33 (dk_at dksX3_result_0 15 rfl rfl)
theorem dX3_result_18 : decode cX3_result 18 = .ok (.ireturn, 1) := dk_172 (dk_at dksX3_result_0 18 rfl rfl)
theorem dX3_result_19 : decode cX3_result 19 = .ok (.aload_n 0, 1) := dk_42 (dk_at dksX3_result_0 19 rfl rfl)
theorem dX3_result_20 : decode cX3_result 20 = .ok (.invokevirtual 133, 3) := dk_182 0 133 (dk_at dksX3_result_0 20 rfl rfl)
theorem dX3_result_23 : decode cX3_result 23 = .ok (.aload_n 0, 1) := dk_42 (dk_at dksX3_result_0 23 rfl rfl)
theorem dX3_result_24 : decode cX3_result 24 = .ok (.getfield 25, 3) := dk_180 0 25 (dk_at dksX3_result_1 0 rfl rfl)
theorem dX3_result_27 : decode cX3_result 27 = .ok (.iload_n 1, 1) := dk_27 (dk_at dksX3_result_1 3 rfl rfl)
theorem dX3_result_28 : decode cX3_result 28 = .ok (.iaload, 1) := dk_46 (dk_at dksX3_result_1 4 rfl rfl)
theorem dX3_result_29 : decode cX3_result 29 = .ok (.aload_n 0, 1) := dk_42 (dk_at dksX3_result_1 5 rfl rfl)
theorem dX3_result_30 : decode cX3_result 30 = .ok (.getfield 31, 3) := dk_180 0 31 (dk_at dksX3_result_1 6 rfl rfl)
theorem dX3_result_33 : decode cX3_result 33 = .ok (.aload_n 0, 1) := dk_42 (dk_at dksX3_result_1 9 rfl rfl)
theorem dX3_result_34 : decode cX3_result 34 = .ok (.iload_n 1, 1) := dk_27 (dk_at dksX3_result_1 10 rfl rfl)
theorem dX3_result_35 : decode cX3_result 35 = .ok (.aload_n 0, 1) := dk_42 (dk_at dksX3_result_1 11 rfl rfl)
theorem dX3_result_36 : decode cX3_result 36 = .ok (.getfield 9, 3) := dk_180 0 9 (dk_at dksX3_result_1 12 rfl rfl)
theorem dX3_result_39 : decode cX3_result 39 = .ok (.iconst 2, 1) := dk_5 (dk_at dksX3_result_1 15 rfl rfl)
theorem dX3_result_40 : decode cX3_result 40 = .ok (.iaload, 1) := dk_46 (dk_at dksX3_result_1 16 rfl rfl)
theorem dX3_result_41 : decode cX3_result 41 = .ok (.iconst 1, 1) := dk_4 (dk_at dksX3_result_1 17 rfl rfl)
theorem dX3_result_42 : decode cX3_result 42 = .ok (.invokevirtual 139, 3) := dk_182 0 139 (dk_at dksX3_result_1 18 rfl rfl)
theorem dX3_result_45 : decode cX3_result 45 = .ok (.iaload, 1) := dk_46 (dk_at dksX3_result_1 21 rfl rfl)
theorem dX3_result_46 : decode cX3_result 46 = .ok (.isub, 1) := dk_100 (dk_at dksX3_result_1 22 rfl rfl)
theorem dX3_result_47 : decode cX3_result 47 = .ok (.ireturn, 1) := dk_172 (dk_at dksX3_result_1 23 rfl rfl)
/-- PackingDuelModel.result(I)I -/
def zb175 (G : zPg) (C : zO) (args : List Value) (Q : zQ) (Y : zY) (σ : zS) : Prop := ∃ (a0 : Nat) (x1 : Int32), args = [.ref a0, .int x1] ∧ (zput σ G.1 (some a0) 4 5 (.int (0 : Int32)) (fun s1 => zrc s1 (some a0) 4 (fun a12 => zcl C 171 [.ref a12, .int x1] Y s1 (zqI (fun v9 s10 => ((¬ v9 = 0) → zrc s10 (some a0) 4 (fun a20 => zcl C 172 [.ref a20] Y s10 (zqV (fun s18 => zgR s18 (some a0) 4 8 (fun v24 => zaI s18 0 v24 x1 (fun v36 => zgR s18 (some a0) 4 10 (fun v38 => zgR s18 (some a0) 4 0 (fun v44 => zaI s18 0 v44 (2 : Int32) (fun v56 => zrc s18 (some a0) 4 (fun a61 => zcl C 173 [.ref a61, .int x1, .int v56, .int (1 : Int32)] Y s18 (zqI (fun v58 s59 => zaI s59 0 v38 v58 (fun v71 => Q (some (.int (v36 - v71))) s59))))))))))))) ∧ ((v9 = 0) → zrc s10 (some a0) 4 (fun a76 => zcl C 163 [.ref a76, .int (1 : Int32)] Y s10 (zqI (fun v73 s74 => Q (some (.int v73)) s74)))))))))
set_option maxHeartbeats 4000000 in
theorem wk175 {l : Launch} {g : zG} {d : Nat} {C : zO} (hG : zGk g) (hC : zSound l g d C) {args : List Value} {Q : zQ} {Y : zY} {σ : zS} (hw : zb175 (zpg g) C args Q Y σ) : zMet l g (d + 1) (⟨"PackingDuelModel", "result", "(I)I"⟩, Cond.code ⟨"PackingDuelModel", "result", "(I)I"⟩ prog_28_method_68_code 2 (Option.some FieldType.int)) args σ Q Y := by
  obtain ⟨a0, x1, rfl, hw⟩ := hw
  refine zof hG (by decide +kernel) [false, false] ⟨rfl, rfl, trivial⟩ (Nat.le_of_ble_eq_true rfl) (ls := [some (va_rf (some a0)), some (.int x1)]) rfl ?_
  intro X hX hR hTb hd1 hd2 hl hg hnm
  subst hl
  subst hg
  have hd : zDep X d := ⟨hd1, hd2⟩
  refine z_aload_n hX dX3_result_0 rfl (i := 0) rfl ?_
  refine z_iconst hX (v := (0 : Int32)) dX3_result_1 (by decide) ?_
  obtain ⟨a3, f4, r5, g6, m7, l8, hw⟩ := hw
  refine z_put hX zc4 (k := 5) dX3_result_2 (Nat.le_of_ble_eq_true rfl) (zlk hX q2474) rfl rfl rfl r5 g6 m7 l8 (z_nm (fun s1 e2 => ?_))
  have hw := hw s1 e2
  refine z_aload_n hX dX3_result_5 rfl (i := 0) rfl ?_
  refine z_iload_n hX dX3_result_6 rfl (i := 1) rfl ?_
  obtain ⟨a12, f13, r14, m15, hw⟩ := hw
  refine z_invV hX hd r14 (ci := 4) rfl rfl m15 dX3_result_7 (hC 171 _ zm171 _ _ _ _ hw) q2651 q2653 qs53 zh7 q2654 q136 zn171 rfl (Nat.le_of_ble_eq_true rfl) (st := []) rfl (zcs8 (Nat.le_of_ble_eq_true rfl)) rfl (zkI (fun v9 s10 hw => ?_)) (zout hX hR hTb)
  refine z_if_ne hX dX3_result_10 (tgt := 19) rfl (fun c16 => ?_) (fun c16 => ?_)
  · have hw := hw.1 c16
    refine z_aload_n hX dX3_result_19 rfl (i := 0) rfl ?_
    obtain ⟨a20, f21, r22, m23, hw⟩ := hw
    refine z_invV hX hd r22 (ci := 4) rfl rfl m23 dX3_result_20 (hC 172 _ zm172 _ _ _ _ hw) q2655 q2657 qs54 zh7 q2658 q136 zn172 rfl (Nat.le_of_ble_eq_true rfl) (st := []) rfl (zcs8 (Nat.le_of_ble_eq_true rfl)) rfl (zkV (fun s18 hw => ?_)) (zout hX hR hTb)
    refine z_aload_n hX dX3_result_23 rfl (i := 0) rfl ?_
    obtain ⟨a25, f26, v24, r27, m28, e29, hw⟩ := hw
    refine z_get hX zc4 (k := 8) dX3_result_24 (Nat.le_of_ble_eq_true rfl) (zlk hX q2477) r27 m28 e29 ?_
    refine z_iload_n hX dX3_result_27 rfl (i := 1) rfl ?_
    obtain ⟨a30, n31, f32, r33, m34, i35, hw⟩ := hw
    refine z_iald hX dX3_result_28 r33 m34 i35 ?_
    revert hw
    generalize f32 (Int32.toNatClampNeg x1) = v36
    intro hw
    refine z_aload_n hX dX3_result_29 rfl (i := 0) rfl ?_
    obtain ⟨a39, f40, v38, r41, m42, e43, hw⟩ := hw
    refine z_get hX zc4 (k := 10) dX3_result_30 (Nat.le_of_ble_eq_true rfl) (zlk hX q2479) r41 m42 e43 ?_
    refine z_aload_n hX dX3_result_33 rfl (i := 0) rfl ?_
    refine z_iload_n hX dX3_result_34 rfl (i := 1) rfl ?_
    refine z_aload_n hX dX3_result_35 rfl (i := 0) rfl ?_
    obtain ⟨a45, f46, v44, r47, m48, e49, hw⟩ := hw
    refine z_get hX zc4 (k := 0) dX3_result_36 (Nat.le_of_ble_eq_true rfl) (zlk hX q2469) r47 m48 e49 ?_
    refine z_iconst hX (v := (2 : Int32)) dX3_result_39 (by decide) ?_
    obtain ⟨a50, n51, f52, r53, m54, i55, hw⟩ := hw
    refine z_iald hX dX3_result_40 r53 m54 i55 ?_
    revert hw
    generalize f52 (Int32.toNatClampNeg (2 : Int32)) = v56
    intro hw
    refine z_iconst hX (v := (1 : Int32)) dX3_result_41 (by decide) ?_
    obtain ⟨a61, f62, r63, m64, hw⟩ := hw
    refine z_invV hX hd r63 (ci := 4) rfl rfl m64 dX3_result_42 (hC 173 _ zm173 _ _ _ _ hw) q2659 q2661 qs55 zh7 q2662 q136 zn173 rfl (Nat.le_of_ble_eq_true rfl) (st := [va_rf v38, .int v36]) rfl (zcs8 (Nat.le_of_ble_eq_true rfl)) rfl (zkI (fun v58 s59 hw => ?_)) (zout hX hR hTb)
    obtain ⟨a65, n66, f67, r68, m69, i70, hw⟩ := hw
    refine z_iald hX dX3_result_45 r68 m69 i70 ?_
    revert hw
    generalize f67 (Int32.toNatClampNeg v58) = v71
    intro hw
    refine z_isub hX dX3_result_46 ?_
    exact z_ireturn hX hR dX3_result_47 rfl hw
  · have hw := hw.2 c16
    refine z_aload_n hX dX3_result_13 rfl (i := 0) rfl ?_
    refine z_iconst hX (v := (1 : Int32)) dX3_result_14 (by decide) ?_
    obtain ⟨a76, f77, r78, m79, hw⟩ := hw
    refine z_invV hX hd r78 (ci := 4) rfl rfl m79 dX3_result_15 (hC 163 _ zm163 _ _ _ _ hw) q2620 q2622 qs49 zh7 q2623 q136 zn163 rfl (Nat.le_of_ble_eq_true rfl) (st := []) rfl (zcs8 (Nat.le_of_ble_eq_true rfl)) rfl (zkI (fun v73 s74 hw => ?_)) (zout hX hR hTb)
    exact z_ireturn hX hR dX3_result_18 rfl hw
abbrev cX3_ranked : ByteArray := prog_28_method_69_code
def yX3_ranked : MethodName := ⟨RX3, "ranked", "(I)I"⟩
def dkwX3_ranked_2 : List UInt8 := [4, 182, 1, 33, 172]
abbrev dktX3_ranked_2 : List UInt8 := dkwX3_ranked_2 ++ []
def dkwX3_ranked_1 : List UInt8 := [182, 0, 136, 153, 0, 14, 42, 28, 182, 1, 45, 27, 160, 0, 5, 28, 172, 132, 2, 1, 167, 255, 224, 42]
abbrev dktX3_ranked_1 : List UInt8 := dkwX3_ranked_1 ++ dktX3_ranked_2
def dkwX3_ranked_0 : List UInt8 := [42, 3, 181, 0, 103, 42, 182, 1, 42, 3, 61, 28, 4, 42, 182, 0, 106, 120, 162, 0, 28, 42, 28]
abbrev dktX3_ranked_0 : List UInt8 := dkwX3_ranked_0 ++ dktX3_ranked_1
theorem dksX3_ranked_0 : cX3_ranked.data.toList.drop 0 = dktX3_ranked_0 := by decide +kernel
theorem dksX3_ranked_1 : cX3_ranked.data.toList.drop 23 = dktX3_ranked_1 := dk_seg dksX3_ranked_0 23 rfl rfl
theorem dksX3_ranked_2 : cX3_ranked.data.toList.drop 47 = dktX3_ranked_2 := dk_seg dksX3_ranked_1 24 rfl rfl
theorem dX3_ranked_0 : decode cX3_ranked 0 = .ok (.aload_n 0, 1) := dk_42 (dk_at dksX3_ranked_0 0 rfl rfl)
theorem dX3_ranked_1 : decode cX3_ranked 1 = .ok (.iconst 0, 1) := dk_3 (dk_at dksX3_ranked_0 1 rfl rfl)
theorem dX3_ranked_2 : decode cX3_ranked 2 = .ok (.putfield 103, 3) := dk_181 0 103 (dk_at dksX3_ranked_0 2 rfl rfl)
theorem dX3_ranked_5 : decode cX3_ranked 5 = .ok (.aload_n 0, 1) := dk_42 (dk_at dksX3_ranked_0 5 rfl rfl)
theorem dX3_ranked_6 : decode cX3_ranked 6 = .ok (.invokevirtual 298, 3) := dk_182 1 42 (dk_at dksX3_ranked_0 6 rfl rfl)
theorem dX3_ranked_9 : decode cX3_ranked 9 = .ok (.iconst 0, 1) := dk_3 (dk_at dksX3_ranked_0 9 rfl rfl)
theorem dX3_ranked_10 : decode cX3_ranked 10 = .ok (.istore_n 2, 1) := dk_61 (dk_at dksX3_ranked_0 10 rfl rfl)
theorem dX3_ranked_11 : decode cX3_ranked 11 = .ok (.iload_n 2, 1) := dk_28 (dk_at dksX3_ranked_0 11 rfl rfl)
theorem dX3_ranked_12 : decode cX3_ranked 12 = .ok (.iconst 1, 1) := dk_4 (dk_at dksX3_ranked_0 12 rfl rfl)
theorem dX3_ranked_13 : decode cX3_ranked 13 = .ok (.aload_n 0, 1) := dk_42 (dk_at dksX3_ranked_0 13 rfl rfl)
theorem dX3_ranked_14 : decode cX3_ranked 14 = .ok (.invokevirtual 106, 3) := dk_182 0 106 (dk_at dksX3_ranked_0 14 rfl rfl)
theorem dX3_ranked_17 : decode cX3_ranked 17 = .ok (.ishl, 1) := dk_120 (dk_at dksX3_ranked_0 17 rfl rfl)
theorem dX3_ranked_18 : decode cX3_ranked 18 = .ok (.if_icmp .ge 28, 3) := dk_162 0 28 (dk_at dksX3_ranked_0 18 rfl rfl)
theorem dX3_ranked_21 : decode cX3_ranked 21 = .ok (.aload_n 0, 1) := dk_42 (dk_at dksX3_ranked_0 21 rfl rfl)
theorem dX3_ranked_22 : decode cX3_ranked 22 = .ok (.iload_n 2, 1) := dk_28 (dk_at dksX3_ranked_0 22 rfl rfl)
theorem dX3_ranked_23 : decode cX3_ranked 23 = .ok (.invokevirtual 136, 3) := dk_182 0 136 (dk_at dksX3_ranked_1 0 rfl rfl)
theorem dX3_ranked_26 : decode cX3_ranked 26 = .ok (.ifCond .eq 14, 3) := dk_153 0 14 (dk_at dksX3_ranked_1 3 rfl rfl)
theorem dX3_ranked_29 : decode cX3_ranked 29 = .ok (.aload_n 0, 1) := dk_42 (dk_at dksX3_ranked_1 6 rfl rfl)
theorem dX3_ranked_30 : decode cX3_ranked 30 = .ok (.iload_n 2, 1) := dk_28 (dk_at dksX3_ranked_1 7 rfl rfl)
theorem dX3_ranked_31 : decode cX3_ranked 31 = .ok (.invokevirtual 301, 3) := dk_182 1 45 (dk_at dksX3_ranked_1 8 rfl rfl)
theorem dX3_ranked_34 : decode cX3_ranked 34 = .ok (.iload_n 1, 1) := dk_27 (dk_at dksX3_ranked_1 11 rfl rfl)
theorem dX3_ranked_35 : decode cX3_ranked 35 = .ok (.if_icmp .ne 5, 3) := dk_160 0 5 (dk_at dksX3_ranked_1 12 rfl rfl)
theorem dX3_ranked_38 : decode cX3_ranked 38 = .ok (.iload_n 2, 1) := dk_28 (dk_at dksX3_ranked_1 15 rfl rfl)
theorem dX3_ranked_39 : decode cX3_ranked 39 = .ok (.ireturn, 1) := dk_172 (dk_at dksX3_ranked_1 16 rfl rfl)
theorem dX3_ranked_40 : decode cX3_ranked 40 = .ok (.iinc 2 1, 3) := dk_132 2 1 (dk_at dksX3_ranked_1 17 rfl rfl)
theorem dX3_ranked_43 : decode cX3_ranked 43 = .ok (.goto (-32), 3) := dk_167 255 224 (dk_at dksX3_ranked_1 20 rfl rfl)
theorem dX3_ranked_46 : decode cX3_ranked 46 = .ok (.aload_n 0, 1) := dk_42 (dk_at dksX3_ranked_1 23 rfl rfl)
theorem dX3_ranked_47 : decode cX3_ranked 47 = .ok (.iconst 1, 1) := dk_4 (dk_at dksX3_ranked_2 0 rfl rfl)
theorem dX3_ranked_48 : decode cX3_ranked 48 = .ok (.invokevirtual 289, 3) := dk_182 1 33 (dk_at dksX3_ranked_2 1 rfl rfl)
theorem dX3_ranked_51 : decode cX3_ranked 51 = .ok (.ireturn, 1) := dk_172 (dk_at dksX3_ranked_2 4 rfl rfl)
/-- PackingDuelModel.ranked(I)I -/
def zb176 (G : zPg) (C : zO) (args : List Value) (Q : zQ) (Y : zY) (σ : zS) : Prop := ∃ (a0 : Nat) (x1 : Int32), args = [.ref a0, .int x1] ∧ (zput σ G.1 (some a0) 4 5 (.int (0 : Int32)) (fun s1 => zrc s1 (some a0) 4 (fun a12 => zcl C 177 [.ref a12] Y s1 (zqV (fun s10 => ∃ n, zIt (fun _ _ => False) (fun rec18 (p16 : Int32) (s17 : zS) => zrc s17 (some a0) 4 (fun a22 => zcl C 159 [.ref a22] Y s17 (zqI (fun v19 s20 => ((((1 : Int32) <<< (v19 &&& 31)) ≤ p16) → zrc s20 (some a0) 4 (fun a30 => zcl C 163 [.ref a30, .int (1 : Int32)] Y s20 (zqI (fun v27 s28 => Q (some (.int v27)) s28)))) ∧ ((¬ ((1 : Int32) <<< (v19 &&& 31)) ≤ p16) → zrc s20 (some a0) 4 (fun a37 => zcl C 179 [.ref a37, .int p16] Y s20 (zqI (fun v34 s35 => zJ (fun  (s41 : zS) => (∀ v43 : Int32, v43 = p16 + (1 : Int32) → rec18 v43 s41)) (fun (j42 : zS → Prop) => ((v34 = 0) → j42 s35) ∧ ((¬ v34 = 0) → zrc s35 (some a0) 4 (fun a49 => zcl C 180 [.ref a49, .int p16] Y s35 (zqI (fun v46 s47 => ((¬ v46 = x1) → j42 s47) ∧ ((v46 = x1) → Q (some (.int p16)) s47)))))))))))))) n (0 : Int32) s10)))))
set_option maxHeartbeats 4000000 in
theorem wk176 {l : Launch} {g : zG} {d : Nat} {C : zO} (hG : zGk g) (hC : zSound l g d C) {args : List Value} {Q : zQ} {Y : zY} {σ : zS} (hw : zb176 (zpg g) C args Q Y σ) : zMet l g (d + 1) (⟨"PackingDuelModel", "ranked", "(I)I"⟩, Cond.code ⟨"PackingDuelModel", "ranked", "(I)I"⟩ prog_28_method_69_code 3 (Option.some FieldType.int)) args σ Q Y := by
  obtain ⟨a0, x1, rfl, hw⟩ := hw
  refine zof hG (by decide +kernel) [false, false] ⟨rfl, rfl, trivial⟩ (Nat.le_of_ble_eq_true rfl) (ls := [some (va_rf (some a0)), some (.int x1), none]) rfl ?_
  intro X hX hR hTb hd1 hd2 hl hg hnm
  subst hl
  subst hg
  have hd : zDep X d := ⟨hd1, hd2⟩
  refine z_aload_n hX dX3_ranked_0 rfl (i := 0) rfl ?_
  refine z_iconst hX (v := (0 : Int32)) dX3_ranked_1 (by decide) ?_
  obtain ⟨a3, f4, r5, g6, m7, l8, hw⟩ := hw
  refine z_put hX zc4 (k := 5) dX3_ranked_2 (Nat.le_of_ble_eq_true rfl) (zlk hX q2474) rfl rfl rfl r5 g6 m7 l8 (z_nm (fun s1 e2 => ?_))
  have hw := hw s1 e2
  refine z_aload_n hX dX3_ranked_5 rfl (i := 0) rfl ?_
  obtain ⟨a12, f13, r14, m15, hw⟩ := hw
  refine z_invV hX hd r14 (ci := 4) rfl rfl m15 dX3_ranked_6 (hC 177 _ zm177 _ _ _ _ hw) q2675 q2677 qs57 zh7 q2678 q136 zn177 rfl (Nat.le_of_ble_eq_true rfl) (st := []) rfl (zcs8 (Nat.le_of_ble_eq_true rfl)) rfl (zkV (fun s10 hw => ?_)) (zout hX hR hTb)
  refine z_iconst hX (v := (0 : Int32)) dX3_ranked_9 (by decide) ?_
  refine z_istore_n hX dX3_ranked_10 rfl (i := 2) (Nat.le_of_ble_eq_true rfl) rfl (ls2 := [some (va_rf (some a0)), some (.int x1), some (.int (0 : Int32))]) rfl ?_
  obtain ⟨n54, hw⟩ := hw
  refine zIt_w (P := fun (j : Int32 → zS → Prop) => ∀ (p16 : Int32) (s17 : zS), j p16 s17 → zW X s17 11 [some (va_rf (some a0)), some (.int x1), some (.int p16)] []) (fun _ _ h => h.elim) (fun rec18 hrec18 p16 s17 hw => ?_) n54 _ _ hw
  refine z_iload_n hX dX3_ranked_11 rfl (i := 2) rfl ?_
  refine z_iconst hX (v := (1 : Int32)) dX3_ranked_12 (by decide) ?_
  refine z_aload_n hX dX3_ranked_13 rfl (i := 0) rfl ?_
  obtain ⟨a22, f23, r24, m25, hw⟩ := hw
  refine z_invV hX hd r24 (ci := 4) rfl rfl m25 dX3_ranked_14 (hC 159 _ zm159 _ _ _ _ hw) q2605 q2607 qs46 zh7 q2608 q136 zn159 rfl (Nat.le_of_ble_eq_true rfl) (st := [.int (1 : Int32), .int p16]) rfl (zcs8 (Nat.le_of_ble_eq_true rfl)) rfl (zkI (fun v19 s20 hw => ?_)) (zout hX hR hTb)
  refine z_ishl hX dX3_ranked_17 ?_
  refine z_icmp_ge hX dX3_ranked_18 (tgt := 46) rfl (fun c26 => ?_) (fun c26 => ?_)
  · have hw := hw.1 c26
    refine z_aload_n hX dX3_ranked_46 rfl (i := 0) rfl ?_
    refine z_iconst hX (v := (1 : Int32)) dX3_ranked_47 (by decide) ?_
    obtain ⟨a30, f31, r32, m33, hw⟩ := hw
    refine z_invV hX hd r32 (ci := 4) rfl rfl m33 dX3_ranked_48 (hC 163 _ zm163 _ _ _ _ hw) q2620 q2622 qs49 zh7 q2623 q136 zn163 rfl (Nat.le_of_ble_eq_true rfl) (st := []) rfl (zcs8 (Nat.le_of_ble_eq_true rfl)) rfl (zkI (fun v27 s28 hw => ?_)) (zout hX hR hTb)
    exact z_ireturn hX hR dX3_ranked_51 rfl hw
  · have hw := hw.2 c26
    refine z_aload_n hX dX3_ranked_21 rfl (i := 0) rfl ?_
    refine z_iload_n hX dX3_ranked_22 rfl (i := 2) rfl ?_
    obtain ⟨a37, f38, r39, m40, hw⟩ := hw
    refine z_invV hX hd r39 (ci := 4) rfl rfl m40 dX3_ranked_23 (hC 179 _ zm179 _ _ _ _ hw) q2683 q2685 qs59 zh7 q2686 q136 zn179 rfl (Nat.le_of_ble_eq_true rfl) (st := []) rfl (zcs8 (Nat.le_of_ble_eq_true rfl)) rfl (zkI (fun v34 s35 hw => ?_)) (zout hX hR hTb)
    refine zJ_w (P := fun (j : zS → Prop) => ∀  (s41 : zS), j  s41 → zW X s41 40 [some (va_rf (some a0)), some (.int x1), some (.int p16)] []) hw (fun  s41 hw => ?_) (fun j42 hj42 hw => ?_)
    · obtain ⟨v43, e44⟩ : ∃ y : Int32, y = p16 + (1 : Int32) := ⟨_, rfl⟩
      refine z_iinc hX dX3_ranked_40 (i := 2) (v := v43) rfl (by rw [e44]; rfl) (Nat.le_of_ble_eq_true rfl) rfl (ls2 := [some (va_rf (some a0)), some (.int x1), some (.int v43)]) rfl ?_
      have hw := hw v43 e44
      refine z_goto hX dX3_ranked_43 (tgt := 11) rfl ?_
      exact hrec18 _ _ hw
    · refine z_if_eq hX dX3_ranked_26 (tgt := 40) rfl (fun c45 => ?_) (fun c45 => ?_)
      · have hw := hw.1 c45
        exact hj42  _ hw
      · have hw := hw.2 c45
        refine z_aload_n hX dX3_ranked_29 rfl (i := 0) rfl ?_
        refine z_iload_n hX dX3_ranked_30 rfl (i := 2) rfl ?_
        obtain ⟨a49, f50, r51, m52, hw⟩ := hw
        refine z_invV hX hd r51 (ci := 4) rfl rfl m52 dX3_ranked_31 (hC 180 _ zm180 _ _ _ _ hw) q2687 q2689 qs60 zh7 q2690 q136 zn180 rfl (Nat.le_of_ble_eq_true rfl) (st := []) rfl (zcs8 (Nat.le_of_ble_eq_true rfl)) rfl (zkI (fun v46 s47 hw => ?_)) (zout hX hR hTb)
        refine z_iload_n hX dX3_ranked_34 rfl (i := 1) rfl ?_
        refine z_icmp_ne hX dX3_ranked_35 (tgt := 40) rfl (fun c53 => ?_) (fun c53 => ?_)
        · have hw := hw.1 c53
          exact hj42  _ hw
        · have hw := hw.2 c53
          refine z_iload_n hX dX3_ranked_38 rfl (i := 2) rfl ?_
          exact z_ireturn hX hR dX3_ranked_39 rfl hw
abbrev cX3_layAll : ByteArray := prog_28_method_19_code
def yX3_layAll : MethodName := ⟨RX3, "layAll", "()V"⟩
def dkwX3_layAll_0 : List UInt8 := [42, 42, 180, 0, 9, 5, 46, 4, 182, 0, 143, 177]
abbrev dktX3_layAll_0 : List UInt8 := dkwX3_layAll_0 ++ []
theorem dksX3_layAll_0 : cX3_layAll.data.toList.drop 0 = dktX3_layAll_0 := by decide +kernel
theorem dX3_layAll_0 : decode cX3_layAll 0 = .ok (.aload_n 0, 1) := dk_42 (dk_at dksX3_layAll_0 0 rfl rfl)
theorem dX3_layAll_1 : decode cX3_layAll 1 = .ok (.aload_n 0, 1) := dk_42 (dk_at dksX3_layAll_0 1 rfl rfl)
theorem dX3_layAll_2 : decode cX3_layAll 2 = .ok (.getfield 9, 3) := dk_180 0 9 (dk_at dksX3_layAll_0 2 rfl rfl)
theorem dX3_layAll_5 : decode cX3_layAll 5 = .ok (.iconst 2, 1) := dk_5 (dk_at dksX3_layAll_0 5 rfl rfl)
theorem dX3_layAll_6 : decode cX3_layAll 6 = .ok (.iaload, 1) := dk_46 (dk_at dksX3_layAll_0 6 rfl rfl)
theorem dX3_layAll_7 : decode cX3_layAll 7 = .ok (.iconst 1, 1) := dk_4 (dk_at dksX3_layAll_0 7 rfl rfl)
theorem dX3_layAll_8 : decode cX3_layAll 8 = .ok (.invokevirtual 143, 3) := dk_182 0 143 (dk_at dksX3_layAll_0 8 rfl rfl)
theorem dX3_layAll_11 : decode cX3_layAll 11 = .ok (.return_, 1) := dk_177 (dk_at dksX3_layAll_0 11 rfl rfl)
/-- PackingDuelModel.layAll()V -/
def zb177 (G : zPg) (C : zO) (args : List Value) (Q : zQ) (Y : zY) (σ : zS) : Prop := ∃ (a0 : Nat), args = [.ref a0] ∧ (zgR σ (some a0) 4 0 (fun v1 => zaI σ 0 v1 (2 : Int32) (fun v13 => zrc σ (some a0) 4 (fun a18 => zcl C 178 [.ref a18, .int v13, .int (1 : Int32)] Y σ (zqV (fun s16 => Q none s16))))))
set_option maxHeartbeats 4000000 in
theorem wk177 {l : Launch} {g : zG} {d : Nat} {C : zO} (hG : zGk g) (hC : zSound l g d C) {args : List Value} {Q : zQ} {Y : zY} {σ : zS} (hw : zb177 (zpg g) C args Q Y σ) : zMet l g (d + 1) (⟨"PackingDuelModel", "layAll", "()V"⟩, Cond.code ⟨"PackingDuelModel", "layAll", "()V"⟩ prog_28_method_19_code 1 (Option.none : Option FieldType)) args σ Q Y := by
  obtain ⟨a0, rfl, hw⟩ := hw
  refine zof hG (by decide +kernel) [false] ⟨rfl, trivial⟩ (Nat.le_of_ble_eq_true rfl) (ls := [some (va_rf (some a0))]) rfl ?_
  intro X hX hR hTb hd1 hd2 hl hg hnm
  subst hl
  subst hg
  have hd : zDep X d := ⟨hd1, hd2⟩
  refine z_aload_n hX dX3_layAll_0 rfl (i := 0) rfl ?_
  refine z_aload_n hX dX3_layAll_1 rfl (i := 0) rfl ?_
  obtain ⟨a2, f3, v1, r4, m5, e6, hw⟩ := hw
  refine z_get hX zc4 (k := 0) dX3_layAll_2 (Nat.le_of_ble_eq_true rfl) (zlk hX q2469) r4 m5 e6 ?_
  refine z_iconst hX (v := (2 : Int32)) dX3_layAll_5 (by decide) ?_
  obtain ⟨a7, n8, f9, r10, m11, i12, hw⟩ := hw
  refine z_iald hX dX3_layAll_6 r10 m11 i12 ?_
  revert hw
  generalize f9 (Int32.toNatClampNeg (2 : Int32)) = v13
  intro hw
  refine z_iconst hX (v := (1 : Int32)) dX3_layAll_7 (by decide) ?_
  obtain ⟨a18, f19, r20, m21, hw⟩ := hw
  refine z_invV hX hd r20 (ci := 4) rfl rfl m21 dX3_layAll_8 (hC 178 _ zm178 _ _ _ _ hw) q2679 q2681 qs58 zh7 q2682 q136 zn178 rfl (Nat.le_of_ble_eq_true rfl) (st := []) rfl (zcs8 (Nat.le_of_ble_eq_true rfl)) rfl (zkV (fun s16 hw => ?_)) (zout hX hR hTb)
  exact z_return hX hR dX3_layAll_11 hw
abbrev cX3_layReplies : ByteArray := prog_28_method_18_code
def yX3_layReplies : MethodName := ⟨RX3, "layReplies", "(IZ)V"⟩
def dkwX3_layReplies_2 : List UInt8 := [177]
abbrev dktX3_layReplies_2 : List UInt8 := dkwX3_layReplies_2 ++ []
def dkwX3_layReplies_1 : List UInt8 := [182, 0, 136, 153, 0, 13, 42, 29, 27, 28, 182, 0, 139, 167, 0, 4, 3, 79, 132, 3, 1, 167, 255, 218]
abbrev dktX3_layReplies_1 : List UInt8 := dkwX3_layReplies_1 ++ dktX3_layReplies_2
def dkwX3_layReplies_0 : List UInt8 := [42, 182, 0, 133, 3, 62, 29, 4, 42, 182, 0, 106, 120, 162, 0, 34, 42, 180, 0, 34, 29, 42, 29]
abbrev dktX3_layReplies_0 : List UInt8 := dkwX3_layReplies_0 ++ dktX3_layReplies_1
theorem dksX3_layReplies_0 : cX3_layReplies.data.toList.drop 0 = dktX3_layReplies_0 := by decide +kernel
theorem dksX3_layReplies_1 : cX3_layReplies.data.toList.drop 23 = dktX3_layReplies_1 := dk_seg dksX3_layReplies_0 23 rfl rfl
theorem dksX3_layReplies_2 : cX3_layReplies.data.toList.drop 47 = dktX3_layReplies_2 := dk_seg dksX3_layReplies_1 24 rfl rfl
theorem dX3_layReplies_0 : decode cX3_layReplies 0 = .ok (.aload_n 0, 1) := dk_42 (dk_at dksX3_layReplies_0 0 rfl rfl)
theorem dX3_layReplies_1 : decode cX3_layReplies 1 = .ok (.invokevirtual 133, 3) := dk_182 0 133 (dk_at dksX3_layReplies_0 1 rfl rfl)
theorem dX3_layReplies_4 : decode cX3_layReplies 4 = .ok (.iconst 0, 1) := dk_3 (dk_at dksX3_layReplies_0 4 rfl rfl)
theorem dX3_layReplies_5 : decode cX3_layReplies 5 = .ok (.istore_n 3, 1) := dk_62 (dk_at dksX3_layReplies_0 5 rfl rfl)
theorem dX3_layReplies_6 : decode cX3_layReplies 6 = .ok (.iload_n 3, 1) := dk_29 (dk_at dksX3_layReplies_0 6 rfl rfl)
theorem dX3_layReplies_7 : decode cX3_layReplies 7 = .ok (.iconst 1, 1) := dk_4 (dk_at dksX3_layReplies_0 7 rfl rfl)
theorem dX3_layReplies_8 : decode cX3_layReplies 8 = .ok (.aload_n 0, 1) := dk_42 (dk_at dksX3_layReplies_0 8 rfl rfl)
theorem dX3_layReplies_9 : decode cX3_layReplies 9 = .ok (.invokevirtual 106, 3) := dk_182 0 106 (dk_at dksX3_layReplies_0 9 rfl rfl)
theorem dX3_layReplies_12 : decode cX3_layReplies 12 = .ok (.ishl, 1) := dk_120 (dk_at dksX3_layReplies_0 12 rfl rfl)
theorem dX3_layReplies_13 : decode cX3_layReplies 13 = .ok (.if_icmp .ge 34, 3) := dk_162 0 34 (dk_at dksX3_layReplies_0 13 rfl rfl)
theorem dX3_layReplies_16 : decode cX3_layReplies 16 = .ok (.aload_n 0, 1) := dk_42 (dk_at dksX3_layReplies_0 16 rfl rfl)
theorem dX3_layReplies_17 : decode cX3_layReplies 17 = .ok (.getfield 34, 3) := dk_180 0 34 (dk_at dksX3_layReplies_0 17 rfl rfl)
theorem dX3_layReplies_20 : decode cX3_layReplies 20 = .ok (.iload_n 3, 1) := dk_29 (dk_at dksX3_layReplies_0 20 rfl rfl)
theorem dX3_layReplies_21 : decode cX3_layReplies 21 = .ok (.aload_n 0, 1) := dk_42 (dk_at dksX3_layReplies_0 21 rfl rfl)
theorem dX3_layReplies_22 : decode cX3_layReplies 22 = .ok (.iload_n 3, 1) := dk_29 (dk_at dksX3_layReplies_0 22 rfl rfl)
theorem dX3_layReplies_23 : decode cX3_layReplies 23 = .ok (.invokevirtual 136, 3) := dk_182 0 136 (dk_at dksX3_layReplies_1 0 rfl rfl)
theorem dX3_layReplies_26 : decode cX3_layReplies 26 = .ok (.ifCond .eq 13, 3) := dk_153 0 13 (dk_at dksX3_layReplies_1 3 rfl rfl)
theorem dX3_layReplies_29 : decode cX3_layReplies 29 = .ok (.aload_n 0, 1) := dk_42 (dk_at dksX3_layReplies_1 6 rfl rfl)
theorem dX3_layReplies_30 : decode cX3_layReplies 30 = .ok (.iload_n 3, 1) := dk_29 (dk_at dksX3_layReplies_1 7 rfl rfl)
theorem dX3_layReplies_31 : decode cX3_layReplies 31 = .ok (.iload_n 1, 1) := dk_27 (dk_at dksX3_layReplies_1 8 rfl rfl)
theorem dX3_layReplies_32 : decode cX3_layReplies 32 = .ok (.iload_n 2, 1) := dk_28 (dk_at dksX3_layReplies_1 9 rfl rfl)
theorem dX3_layReplies_33 : decode cX3_layReplies 33 = .ok (.invokevirtual 139, 3) := dk_182 0 139 (dk_at dksX3_layReplies_1 10 rfl rfl)
theorem dX3_layReplies_36 : decode cX3_layReplies 36 = .ok (.goto 4, 3) := dk_167 0 4 (dk_at dksX3_layReplies_1 13 rfl rfl)
theorem dX3_layReplies_39 : decode cX3_layReplies 39 = .ok (.iconst 0, 1) := dk_3 (dk_at dksX3_layReplies_1 16 rfl rfl)
theorem dX3_layReplies_40 : decode cX3_layReplies 40 = .ok (.iastore, 1) := dk_79 (dk_at dksX3_layReplies_1 17 rfl rfl)
theorem dX3_layReplies_41 : decode cX3_layReplies 41 = .ok (.iinc 3 1, 3) := dk_132 3 1 (dk_at dksX3_layReplies_1 18 rfl rfl)
theorem dX3_layReplies_44 : decode cX3_layReplies 44 = .ok (.goto (-38), 3) := dk_167 255 218 (dk_at dksX3_layReplies_1 21 rfl rfl)
theorem dX3_layReplies_47 : decode cX3_layReplies 47 = .ok (.return_, 1) := dk_177 (dk_at dksX3_layReplies_2 0 rfl rfl)
/-- PackingDuelModel.layReplies(IZ)V -/
def zb178 (G : zPg) (C : zO) (args : List Value) (Q : zQ) (Y : zY) (σ : zS) : Prop := ∃ (a0 : Nat) (x1 : Int32) (x2 : Int32), args = [.ref a0, .int x1, .int x2] ∧ (zrc σ (some a0) 4 (fun a4 => zcl C 172 [.ref a4] Y σ (zqV (fun s2 => ∃ n, zIt (fun _ _ => False) (fun rec10 (p8 : Int32) (s9 : zS) => zrc s9 (some a0) 4 (fun a14 => zcl C 159 [.ref a14] Y s9 (zqI (fun v11 s12 => ((((1 : Int32) <<< (v11 &&& 31)) ≤ p8) → Q none s12) ∧ ((¬ ((1 : Int32) <<< (v11 &&& 31)) ≤ p8) → zgR s12 (some a0) 4 11 (fun v19 => zrc s12 (some a0) 4 (fun a28 => zcl C 179 [.ref a28, .int p8] Y s12 (zqI (fun v25 s26 => zJ (fun (p32 : Int32) (s33 : zS) => zsI s33 G.1 0 v19 p8 p32 (fun s42 => (∀ v44 : Int32, v44 = p8 + (1 : Int32) → rec10 v44 s42))) (fun (j34 : Int32 → zS → Prop) => ((v25 = 0) → j34 (0 : Int32) s26) ∧ ((¬ v25 = 0) → zrc s26 (some a0) 4 (fun a50 => zcl C 173 [.ref a50, .int p8, .int x1, .int x2] Y s26 (zqI (fun v47 s48 => j34 v47 s48)))))))))))))) n (0 : Int32) s2))))
set_option maxHeartbeats 4000000 in
theorem wk178 {l : Launch} {g : zG} {d : Nat} {C : zO} (hG : zGk g) (hC : zSound l g d C) {args : List Value} {Q : zQ} {Y : zY} {σ : zS} (hw : zb178 (zpg g) C args Q Y σ) : zMet l g (d + 1) (⟨"PackingDuelModel", "layReplies", "(IZ)V"⟩, Cond.code ⟨"PackingDuelModel", "layReplies", "(IZ)V"⟩ prog_28_method_18_code 4 (Option.none : Option FieldType)) args σ Q Y := by
  obtain ⟨a0, x1, x2, rfl, hw⟩ := hw
  refine zof hG (by decide +kernel) [false, false, false] ⟨rfl, rfl, rfl, trivial⟩ (Nat.le_of_ble_eq_true rfl) (ls := [some (va_rf (some a0)), some (.int x1), some (.int x2), none]) rfl ?_
  intro X hX hR hTb hd1 hd2 hl hg hnm
  subst hl
  subst hg
  have hd : zDep X d := ⟨hd1, hd2⟩
  refine z_aload_n hX dX3_layReplies_0 rfl (i := 0) rfl ?_
  obtain ⟨a4, f5, r6, m7, hw⟩ := hw
  refine z_invV hX hd r6 (ci := 4) rfl rfl m7 dX3_layReplies_1 (hC 172 _ zm172 _ _ _ _ hw) q2655 q2657 qs54 zh7 q2658 q136 zn172 rfl (Nat.le_of_ble_eq_true rfl) (st := []) rfl (zcs8 (Nat.le_of_ble_eq_true rfl)) rfl (zkV (fun s2 hw => ?_)) (zout hX hR hTb)
  refine z_iconst hX (v := (0 : Int32)) dX3_layReplies_4 (by decide) ?_
  refine z_istore_n hX dX3_layReplies_5 rfl (i := 3) (Nat.le_of_ble_eq_true rfl) rfl (ls2 := [some (va_rf (some a0)), some (.int x1), some (.int x2), some (.int (0 : Int32))]) rfl ?_
  obtain ⟨n54, hw⟩ := hw
  refine zIt_w (P := fun (j : Int32 → zS → Prop) => ∀ (p8 : Int32) (s9 : zS), j p8 s9 → zW X s9 6 [some (va_rf (some a0)), some (.int x1), some (.int x2), some (.int p8)] []) (fun _ _ h => h.elim) (fun rec10 hrec10 p8 s9 hw => ?_) n54 _ _ hw
  refine z_iload_n hX dX3_layReplies_6 rfl (i := 3) rfl ?_
  refine z_iconst hX (v := (1 : Int32)) dX3_layReplies_7 (by decide) ?_
  refine z_aload_n hX dX3_layReplies_8 rfl (i := 0) rfl ?_
  obtain ⟨a14, f15, r16, m17, hw⟩ := hw
  refine z_invV hX hd r16 (ci := 4) rfl rfl m17 dX3_layReplies_9 (hC 159 _ zm159 _ _ _ _ hw) q2605 q2607 qs46 zh7 q2608 q136 zn159 rfl (Nat.le_of_ble_eq_true rfl) (st := [.int (1 : Int32), .int p8]) rfl (zcs8 (Nat.le_of_ble_eq_true rfl)) rfl (zkI (fun v11 s12 hw => ?_)) (zout hX hR hTb)
  refine z_ishl hX dX3_layReplies_12 ?_
  refine z_icmp_ge hX dX3_layReplies_13 (tgt := 47) rfl (fun c18 => ?_) (fun c18 => ?_)
  · have hw := hw.1 c18
    exact z_return hX hR dX3_layReplies_47 hw
  · have hw := hw.2 c18
    refine z_aload_n hX dX3_layReplies_16 rfl (i := 0) rfl ?_
    obtain ⟨a20, f21, v19, r22, m23, e24, hw⟩ := hw
    refine z_get hX zc4 (k := 11) dX3_layReplies_17 (Nat.le_of_ble_eq_true rfl) (zlk hX q2480) r22 m23 e24 ?_
    refine z_iload_n hX dX3_layReplies_20 rfl (i := 3) rfl ?_
    refine z_aload_n hX dX3_layReplies_21 rfl (i := 0) rfl ?_
    refine z_iload_n hX dX3_layReplies_22 rfl (i := 3) rfl ?_
    obtain ⟨a28, f29, r30, m31, hw⟩ := hw
    refine z_invV hX hd r30 (ci := 4) rfl rfl m31 dX3_layReplies_23 (hC 179 _ zm179 _ _ _ _ hw) q2683 q2685 qs59 zh7 q2686 q136 zn179 rfl (Nat.le_of_ble_eq_true rfl) (st := [.int p8, va_rf v19]) rfl (zcs8 (Nat.le_of_ble_eq_true rfl)) rfl (zkI (fun v25 s26 hw => ?_)) (zout hX hR hTb)
    refine zJ_w (P := fun (j : Int32 → zS → Prop) => ∀ (p32 : Int32) (s33 : zS), j p32 s33 → zW X s33 40 [some (va_rf (some a0)), some (.int x1), some (.int x2), some (.int p8)] [.int p32, .int p8, va_rf v19]) hw (fun p32 s33 hw => ?_) (fun j34 hj34 hw => ?_)
    · obtain ⟨a35, n36, f37, r38, g39, m40, i41, hw⟩ := hw
      refine z_iast hX dX3_layReplies_40 r38 g39 m40 i41 (z_nm (fun s42 e43 => ?_))
      have hw := hw s42 e43
      obtain ⟨v44, e45⟩ : ∃ y : Int32, y = p8 + (1 : Int32) := ⟨_, rfl⟩
      refine z_iinc hX dX3_layReplies_41 (i := 3) (v := v44) rfl (by rw [e45]; rfl) (Nat.le_of_ble_eq_true rfl) rfl (ls2 := [some (va_rf (some a0)), some (.int x1), some (.int x2), some (.int v44)]) rfl ?_
      have hw := hw v44 e45
      refine z_goto hX dX3_layReplies_44 (tgt := 6) rfl ?_
      exact hrec10 _ _ hw
    · refine z_if_eq hX dX3_layReplies_26 (tgt := 39) rfl (fun c46 => ?_) (fun c46 => ?_)
      · have hw := hw.1 c46
        refine z_iconst hX (v := (0 : Int32)) dX3_layReplies_39 (by decide) ?_
        exact hj34 _ _ hw
      · have hw := hw.2 c46
        refine z_aload_n hX dX3_layReplies_29 rfl (i := 0) rfl ?_
        refine z_iload_n hX dX3_layReplies_30 rfl (i := 3) rfl ?_
        refine z_iload_n hX dX3_layReplies_31 rfl (i := 1) rfl ?_
        refine z_iload_n hX dX3_layReplies_32 rfl (i := 2) rfl ?_
        obtain ⟨a50, f51, r52, m53, hw⟩ := hw
        refine z_invV hX hd r52 (ci := 4) rfl rfl m53 dX3_layReplies_33 (hC 173 _ zm173 _ _ _ _ hw) q2659 q2661 qs55 zh7 q2662 q136 zn173 rfl (Nat.le_of_ble_eq_true rfl) (st := [.int p8, va_rf v19]) rfl (zcs8 (Nat.le_of_ble_eq_true rfl)) rfl (zkI (fun v47 s48 hw => ?_)) (zout hX hR hTb)
        refine z_goto hX dX3_layReplies_36 (tgt := 40) rfl ?_
        exact hj34 _ _ hw
abbrev cX3_fits : ByteArray := prog_28_method_17_code
def yX3_fits : MethodName := ⟨RX3, "fits", "(I)Z"⟩
def dkwX3_fits_0 : List UInt8 := [42, 180, 0, 22, 27, 46, 42, 180, 0, 9, 4, 46, 163, 0, 7, 4, 167, 0, 4, 3, 172]
abbrev dktX3_fits_0 : List UInt8 := dkwX3_fits_0 ++ []
theorem dksX3_fits_0 : cX3_fits.data.toList.drop 0 = dktX3_fits_0 := by decide +kernel
theorem dX3_fits_0 : decode cX3_fits 0 = .ok (.aload_n 0, 1) := dk_42 (dk_at dksX3_fits_0 0 rfl rfl)
theorem dX3_fits_1 : decode cX3_fits 1 = .ok (.getfield 22, 3) := dk_180 0 22 (dk_at dksX3_fits_0 1 rfl rfl)
theorem dX3_fits_4 : decode cX3_fits 4 = .ok (.iload_n 1, 1) := dk_27 (dk_at dksX3_fits_0 4 rfl rfl)
theorem dX3_fits_5 : decode cX3_fits 5 = .ok (.iaload, 1) := dk_46 (dk_at dksX3_fits_0 5 rfl rfl)
theorem dX3_fits_6 : decode cX3_fits 6 = .ok (.aload_n 0, 1) := dk_42 (dk_at dksX3_fits_0 6 rfl rfl)
theorem dX3_fits_7 : decode cX3_fits 7 = .ok (.getfield 9, 3) := dk_180 0 9 (dk_at dksX3_fits_0 7 rfl rfl)
theorem dX3_fits_10 : decode cX3_fits 10 = .ok (.iconst 1, 1) := dk_4 (dk_at dksX3_fits_0 10 rfl rfl)
theorem dX3_fits_11 : decode cX3_fits 11 = .ok (.iaload, 1) := dk_46 (dk_at dksX3_fits_0 11 rfl rfl)
theorem dX3_fits_12 : decode cX3_fits 12 = .ok (.if_icmp .gt 7, 3) := dk_163 0 7 (dk_at dksX3_fits_0 12 rfl rfl)
theorem dX3_fits_15 : decode cX3_fits 15 = .ok (.iconst 1, 1) := dk_4 (dk_at dksX3_fits_0 15 rfl rfl)
theorem dX3_fits_16 : decode cX3_fits 16 = .ok (.goto 4, 3) := dk_167 0 4 (dk_at dksX3_fits_0 16 rfl rfl)
theorem dX3_fits_19 : decode cX3_fits 19 = .ok (.iconst 0, 1) := dk_3 (dk_at dksX3_fits_0 19 rfl rfl)
theorem dX3_fits_20 : decode cX3_fits 20 = .ok (.ireturn, 1) := dk_172 (dk_at dksX3_fits_0 20 rfl rfl)
/-- PackingDuelModel.fits(I)Z -/
def zb179 (G : zPg) (C : zO) (args : List Value) (Q : zQ) (Y : zY) (σ : zS) : Prop := ∃ (a0 : Nat) (x1 : Int32), args = [.ref a0, .int x1] ∧ (zgR σ (some a0) 4 7 (fun v1 => zaI σ 0 v1 x1 (fun v13 => zgR σ (some a0) 4 0 (fun v15 => zaI σ 0 v15 (1 : Int32) (fun v27 => zJ (fun (p29 : Int32) (s30 : zS) => zbool p29 ∧ Q (some (.int p29)) s30) (fun (j31 : Int32 → zS → Prop) => ((v27 < v13) → j31 (0 : Int32) σ) ∧ ((¬ v27 < v13) → j31 (1 : Int32) σ)))))))
set_option maxHeartbeats 4000000 in
theorem wk179 {l : Launch} {g : zG} {d : Nat} {C : zO} (hG : zGk g) (hC : zSound l g d C) {args : List Value} {Q : zQ} {Y : zY} {σ : zS} (hw : zb179 (zpg g) C args Q Y σ) : zMet l g (d + 1) (⟨"PackingDuelModel", "fits", "(I)Z"⟩, Cond.code ⟨"PackingDuelModel", "fits", "(I)Z"⟩ prog_28_method_17_code 2 (Option.some FieldType.boolean)) args σ Q Y := by
  obtain ⟨a0, x1, rfl, hw⟩ := hw
  refine zof hG (by decide +kernel) [false, false] ⟨rfl, rfl, trivial⟩ (Nat.le_of_ble_eq_true rfl) (ls := [some (va_rf (some a0)), some (.int x1)]) rfl ?_
  intro X hX hR hTb hd1 hd2 hl hg hnm
  subst hl
  subst hg
  have hd : zDep X d := ⟨hd1, hd2⟩
  refine z_aload_n hX dX3_fits_0 rfl (i := 0) rfl ?_
  obtain ⟨a2, f3, v1, r4, m5, e6, hw⟩ := hw
  refine z_get hX zc4 (k := 7) dX3_fits_1 (Nat.le_of_ble_eq_true rfl) (zlk hX q2476) r4 m5 e6 ?_
  refine z_iload_n hX dX3_fits_4 rfl (i := 1) rfl ?_
  obtain ⟨a7, n8, f9, r10, m11, i12, hw⟩ := hw
  refine z_iald hX dX3_fits_5 r10 m11 i12 ?_
  revert hw
  generalize f9 (Int32.toNatClampNeg x1) = v13
  intro hw
  refine z_aload_n hX dX3_fits_6 rfl (i := 0) rfl ?_
  obtain ⟨a16, f17, v15, r18, m19, e20, hw⟩ := hw
  refine z_get hX zc4 (k := 0) dX3_fits_7 (Nat.le_of_ble_eq_true rfl) (zlk hX q2469) r18 m19 e20 ?_
  refine z_iconst hX (v := (1 : Int32)) dX3_fits_10 (by decide) ?_
  obtain ⟨a21, n22, f23, r24, m25, i26, hw⟩ := hw
  refine z_iald hX dX3_fits_11 r24 m25 i26 ?_
  revert hw
  generalize f23 (Int32.toNatClampNeg (1 : Int32)) = v27
  intro hw
  refine zJ_w (P := fun (j : Int32 → zS → Prop) => ∀ (p29 : Int32) (s30 : zS), j p29 s30 → zW X s30 20 [none, none] [.int p29]) hw (fun p29 s30 hw => ?_) (fun j31 hj31 hw => ?_)
  · exact z_ireturn hX hR dX3_fits_20 (zn_z hw.1) hw.2
  · refine z_icmp_gt hX dX3_fits_12 (tgt := 19) rfl (fun c32 => ?_) (fun c32 => ?_)
    · have hw := hw.1 c32
      refine z_iconst hX (v := (0 : Int32)) dX3_fits_19 (by decide) ?_
      refine z_sub (ls' := [none, none]) (zsN (zsN (zs0))) ?_
      exact hj31 _ _ hw
    · have hw := hw.2 c32
      refine z_iconst hX (v := (1 : Int32)) dX3_fits_15 (by decide) ?_
      refine z_goto hX dX3_fits_16 (tgt := 20) rfl ?_
      refine z_sub (ls' := [none, none]) (zsN (zsN (zs0))) ?_
      exact hj31 _ _ hw
abbrev cX3_placeOf : ByteArray := prog_28_method_22_code
def yX3_placeOf : MethodName := ⟨RX3, "placeOf", "(I)I"⟩
def dkwX3_placeOf_3 : List UInt8 := [28, 172]
abbrev dktX3_placeOf_3 : List UInt8 := dkwX3_placeOf_3 ++ []
def dkwX3_placeOf_2 : List UInt8 := [21, 5, 154, 0, 13, 21, 4, 27, 162, 0, 7, 4, 167, 0, 4, 3, 96, 61, 132, 4, 1, 167, 255, 199]
abbrev dktX3_placeOf_2 : List UInt8 := dkwX3_placeOf_2 ++ dktX3_placeOf_3
def dkwX3_placeOf_1 : List UInt8 := [21, 4, 182, 0, 136, 153, 0, 37, 42, 21, 4, 182, 0, 147, 29, 100, 54, 5, 28, 21, 5, 157, 0, 14]
abbrev dktX3_placeOf_1 : List UInt8 := dkwX3_placeOf_1 ++ dktX3_placeOf_2
def dkwX3_placeOf_0 : List UInt8 := [3, 61, 42, 27, 182, 0, 147, 62, 3, 54, 4, 21, 4, 4, 42, 182, 0, 106, 120, 162, 0, 52, 42]
abbrev dktX3_placeOf_0 : List UInt8 := dkwX3_placeOf_0 ++ dktX3_placeOf_1
theorem dksX3_placeOf_0 : cX3_placeOf.data.toList.drop 0 = dktX3_placeOf_0 := by decide +kernel
theorem dksX3_placeOf_1 : cX3_placeOf.data.toList.drop 23 = dktX3_placeOf_1 := dk_seg dksX3_placeOf_0 23 rfl rfl
theorem dksX3_placeOf_2 : cX3_placeOf.data.toList.drop 47 = dktX3_placeOf_2 := dk_seg dksX3_placeOf_1 24 rfl rfl
theorem dksX3_placeOf_3 : cX3_placeOf.data.toList.drop 71 = dktX3_placeOf_3 := dk_seg dksX3_placeOf_2 24 rfl rfl
theorem dX3_placeOf_0 : decode cX3_placeOf 0 = .ok (.iconst 0, 1) := dk_3 (dk_at dksX3_placeOf_0 0 rfl rfl)
theorem dX3_placeOf_1 : decode cX3_placeOf 1 = .ok (.istore_n 2, 1) := dk_61 (dk_at dksX3_placeOf_0 1 rfl rfl)
theorem dX3_placeOf_2 : decode cX3_placeOf 2 = .ok (.aload_n 0, 1) := dk_42 (dk_at dksX3_placeOf_0 2 rfl rfl)
theorem dX3_placeOf_3 : decode cX3_placeOf 3 = .ok (.iload_n 1, 1) := dk_27 (dk_at dksX3_placeOf_0 3 rfl rfl)
theorem dX3_placeOf_4 : decode cX3_placeOf 4 = .ok (.invokevirtual 147, 3) := dk_182 0 147 (dk_at dksX3_placeOf_0 4 rfl rfl)
theorem dX3_placeOf_7 : decode cX3_placeOf 7 = .ok (.istore_n 3, 1) := dk_62 (dk_at dksX3_placeOf_0 7 rfl rfl)
theorem dX3_placeOf_8 : decode cX3_placeOf 8 = .ok (.iconst 0, 1) := dk_3 (dk_at dksX3_placeOf_0 8 rfl rfl)
theorem dX3_placeOf_9 : decode cX3_placeOf 9 = .ok (.istore 4, 2) := dk_54 4 (dk_at dksX3_placeOf_0 9 rfl rfl)
theorem dX3_placeOf_11 : decode cX3_placeOf 11 = .ok (.iload 4, 2) := dk_21 4 (dk_at dksX3_placeOf_0 11 rfl rfl)
theorem dX3_placeOf_13 : decode cX3_placeOf 13 = .ok (.iconst 1, 1) := dk_4 (dk_at dksX3_placeOf_0 13 rfl rfl)
theorem dX3_placeOf_14 : decode cX3_placeOf 14 = .ok (.aload_n 0, 1) := dk_42 (dk_at dksX3_placeOf_0 14 rfl rfl)
theorem dX3_placeOf_15 : decode cX3_placeOf 15 = .ok (.invokevirtual 106, 3) := dk_182 0 106 (dk_at dksX3_placeOf_0 15 rfl rfl)
theorem dX3_placeOf_18 : decode cX3_placeOf 18 = .ok (.ishl, 1) := dk_120 (dk_at dksX3_placeOf_0 18 rfl rfl)
theorem dX3_placeOf_19 : decode cX3_placeOf 19 = .ok (.if_icmp .ge 52, 3) := dk_162 0 52 (dk_at dksX3_placeOf_0 19 rfl rfl)
theorem dX3_placeOf_22 : decode cX3_placeOf 22 = .ok (.aload_n 0, 1) := dk_42 (dk_at dksX3_placeOf_0 22 rfl rfl)
theorem dX3_placeOf_23 : decode cX3_placeOf 23 = .ok (.iload 4, 2) := dk_21 4 (dk_at dksX3_placeOf_1 0 rfl rfl)
theorem dX3_placeOf_25 : decode cX3_placeOf 25 = .ok (.invokevirtual 136, 3) := dk_182 0 136 (dk_at dksX3_placeOf_1 2 rfl rfl)
theorem dX3_placeOf_28 : decode cX3_placeOf 28 = .ok (.ifCond .eq 37, 3) := dk_153 0 37 (dk_at dksX3_placeOf_1 5 rfl rfl)
theorem dX3_placeOf_31 : decode cX3_placeOf 31 = .ok (.aload_n 0, 1) := dk_42 (dk_at dksX3_placeOf_1 8 rfl rfl)
theorem dX3_placeOf_32 : decode cX3_placeOf 32 = .ok (.iload 4, 2) := dk_21 4 (dk_at dksX3_placeOf_1 9 rfl rfl)
theorem dX3_placeOf_34 : decode cX3_placeOf 34 = .ok (.invokevirtual 147, 3) := dk_182 0 147 (dk_at dksX3_placeOf_1 11 rfl rfl)
theorem dX3_placeOf_37 : decode cX3_placeOf 37 = .ok (.iload_n 3, 1) := dk_29 (dk_at dksX3_placeOf_1 14 rfl rfl)
theorem dX3_placeOf_38 : decode cX3_placeOf 38 = .ok (.isub, 1) := dk_100 (dk_at dksX3_placeOf_1 15 rfl rfl)
theorem dX3_placeOf_39 : decode cX3_placeOf 39 = .ok (.istore 5, 2) := dk_54 5 (dk_at dksX3_placeOf_1 16 rfl rfl)
theorem dX3_placeOf_41 : decode cX3_placeOf 41 = .ok (.iload_n 2, 1) := dk_28 (dk_at dksX3_placeOf_1 18 rfl rfl)
theorem dX3_placeOf_42 : decode cX3_placeOf 42 = .ok (.iload 5, 2) := dk_21 5 (dk_at dksX3_placeOf_1 19 rfl rfl)
theorem dX3_placeOf_44 : decode cX3_placeOf 44 = .ok (.ifCond .gt 14, 3) := dk_157 0 14 (dk_at dksX3_placeOf_1 21 rfl rfl)
theorem dX3_placeOf_47 : decode cX3_placeOf 47 = .ok (.iload 5, 2) := dk_21 5 (dk_at dksX3_placeOf_2 0 rfl rfl)
theorem dX3_placeOf_49 : decode cX3_placeOf 49 = .ok (.ifCond .ne 13, 3) := dk_154 0 13 (dk_at dksX3_placeOf_2 2 rfl rfl)
theorem dX3_placeOf_52 : decode cX3_placeOf 52 = .ok (.iload 4, 2) := dk_21 4 (dk_at dksX3_placeOf_2 5 rfl rfl)
theorem dX3_placeOf_54 : decode cX3_placeOf 54 = .ok (.iload_n 1, 1) := dk_27 (dk_at dksX3_placeOf_2 7 rfl rfl)
theorem dX3_placeOf_55 : decode cX3_placeOf 55 = .ok (.if_icmp .ge 7, 3) := dk_162 0 7 (dk_at dksX3_placeOf_2 8 rfl rfl)
theorem dX3_placeOf_58 : decode cX3_placeOf 58 = .ok (.iconst 1, 1) := dk_4 (dk_at dksX3_placeOf_2 11 rfl rfl)
theorem dX3_placeOf_59 : decode cX3_placeOf 59 = .ok (.goto 4, 3) := dk_167 0 4 (dk_at dksX3_placeOf_2 12 rfl rfl)
theorem dX3_placeOf_62 : decode cX3_placeOf 62 = .ok (.iconst 0, 1) := dk_3 (dk_at dksX3_placeOf_2 15 rfl rfl)
theorem dX3_placeOf_63 : decode cX3_placeOf 63 = .ok (.iadd, 1) := dk_96 (dk_at dksX3_placeOf_2 16 rfl rfl)
theorem dX3_placeOf_64 : decode cX3_placeOf 64 = .ok (.istore_n 2, 1) := dk_61 (dk_at dksX3_placeOf_2 17 rfl rfl)
theorem dX3_placeOf_65 : decode cX3_placeOf 65 = .ok (.iinc 4 1, 3) := dk_132 4 1 (dk_at dksX3_placeOf_2 18 rfl rfl)
theorem dX3_placeOf_68 : decode cX3_placeOf 68 = .ok (.goto (-57), 3) := dk_167 255 199 (dk_at dksX3_placeOf_2 21 rfl rfl)
theorem dX3_placeOf_71 : decode cX3_placeOf 71 = .ok (.iload_n 2, 1) := dk_28 (dk_at dksX3_placeOf_3 0 rfl rfl)
theorem dX3_placeOf_72 : decode cX3_placeOf 72 = .ok (.ireturn, 1) := dk_172 (dk_at dksX3_placeOf_3 1 rfl rfl)
/-- PackingDuelModel.placeOf(I)I -/
def zb180 (G : zPg) (C : zO) (args : List Value) (Q : zQ) (Y : zY) (σ : zS) : Prop := ∃ (a0 : Nat) (x1 : Int32), args = [.ref a0, .int x1] ∧ (zrc σ (some a0) 4 (fun a4 => zcl C 181 [.ref a4, .int x1] Y σ (zqI (fun v1 s2 => ∃ n, zIt (fun _ _ _ => False) (fun rec11 (p8 : Int32) (p9 : Int32) (s10 : zS) => zrc s10 (some a0) 4 (fun a15 => zcl C 159 [.ref a15] Y s10 (zqI (fun v12 s13 => ((((1 : Int32) <<< (v12 &&& 31)) ≤ p9) → Q (some (.int p8)) s13) ∧ ((¬ ((1 : Int32) <<< (v12 &&& 31)) ≤ p9) → zrc s13 (some a0) 4 (fun a23 => zcl C 179 [.ref a23, .int p9] Y s13 (zqI (fun v20 s21 => zJ (fun (p27 : Int32) (s28 : zS) => (∀ v30 : Int32, v30 = p9 + (1 : Int32) → rec11 p27 v30 s28)) (fun (j29 : Int32 → zS → Prop) => ((v20 = 0) → j29 p8 s21) ∧ ((¬ v20 = 0) → zrc s21 (some a0) 4 (fun a36 => zcl C 181 [.ref a36, .int p9] Y s21 (zqI (fun v33 s34 => zJ (fun (p40 : Int32) (s41 : zS) => j29 (p8 + p40) s41) (fun (j42 : Int32 → zS → Prop) => zJ (fun  (s43 : zS) => j42 (1 : Int32) s43) (fun (j44 : zS → Prop) => ((0 < (v33 - v1)) → j44 s34) ∧ ((¬ 0 < (v33 - v1)) → zJ (fun  (s46 : zS) => j42 (0 : Int32) s46) (fun (j47 : zS → Prop) => ((¬ (v33 - v1) = 0) → j47 s34) ∧ (((v33 - v1) = 0) → ((x1 ≤ p9) → j47 s34) ∧ ((¬ x1 ≤ p9) → j44 s34))))))))))))))))))) n (0 : Int32) (0 : Int32) s2))))
set_option maxHeartbeats 4000000 in
theorem wk180 {l : Launch} {g : zG} {d : Nat} {C : zO} (hG : zGk g) (hC : zSound l g d C) {args : List Value} {Q : zQ} {Y : zY} {σ : zS} (hw : zb180 (zpg g) C args Q Y σ) : zMet l g (d + 1) (⟨"PackingDuelModel", "placeOf", "(I)I"⟩, Cond.code ⟨"PackingDuelModel", "placeOf", "(I)I"⟩ prog_28_method_22_code 6 (Option.some FieldType.int)) args σ Q Y := by
  obtain ⟨a0, x1, rfl, hw⟩ := hw
  refine zof hG (by decide +kernel) [false, false] ⟨rfl, rfl, trivial⟩ (Nat.le_of_ble_eq_true rfl) (ls := [some (va_rf (some a0)), some (.int x1), none, none, none, none]) rfl ?_
  intro X hX hR hTb hd1 hd2 hl hg hnm
  subst hl
  subst hg
  have hd : zDep X d := ⟨hd1, hd2⟩
  refine z_iconst hX (v := (0 : Int32)) dX3_placeOf_0 (by decide) ?_
  refine z_istore_n hX dX3_placeOf_1 rfl (i := 2) (Nat.le_of_ble_eq_true rfl) rfl (ls2 := [some (va_rf (some a0)), some (.int x1), some (.int (0 : Int32)), none, none, none]) rfl ?_
  refine z_aload_n hX dX3_placeOf_2 rfl (i := 0) rfl ?_
  refine z_iload_n hX dX3_placeOf_3 rfl (i := 1) rfl ?_
  obtain ⟨a4, f5, r6, m7, hw⟩ := hw
  refine z_invV hX hd r6 (ci := 4) rfl rfl m7 dX3_placeOf_4 (hC 181 _ zm181 _ _ _ _ hw) q2691 q2693 qs61 zh7 q2694 q136 zn181 rfl (Nat.le_of_ble_eq_true rfl) (st := []) rfl (zcs8 (Nat.le_of_ble_eq_true rfl)) rfl (zkI (fun v1 s2 hw => ?_)) (zout hX hR hTb)
  refine z_istore_n hX dX3_placeOf_7 rfl (i := 3) (Nat.le_of_ble_eq_true rfl) rfl (ls2 := [some (va_rf (some a0)), some (.int x1), some (.int (0 : Int32)), some (.int v1), none, none]) rfl ?_
  refine z_iconst hX (v := (0 : Int32)) dX3_placeOf_8 (by decide) ?_
  refine z_istore hX dX3_placeOf_9 (i := 4) (Nat.le_of_ble_eq_true rfl) rfl (ls2 := [some (va_rf (some a0)), some (.int x1), some (.int (0 : Int32)), some (.int v1), some (.int (0 : Int32)), none]) rfl ?_
  obtain ⟨n50, hw⟩ := hw
  refine zIt_w (P := fun (j : Int32 → Int32 → zS → Prop) => ∀ (p8 : Int32) (p9 : Int32) (s10 : zS), j p8 p9 s10 → zW X s10 11 [some (va_rf (some a0)), some (.int x1), some (.int p8), some (.int v1), some (.int p9), none] []) (fun _ _ _ h => h.elim) (fun rec11 hrec11 p8 p9 s10 hw => ?_) n50 _ _ _ hw
  refine z_iload hX dX3_placeOf_11 (i := 4) rfl ?_
  refine z_iconst hX (v := (1 : Int32)) dX3_placeOf_13 (by decide) ?_
  refine z_aload_n hX dX3_placeOf_14 rfl (i := 0) rfl ?_
  obtain ⟨a15, f16, r17, m18, hw⟩ := hw
  refine z_invV hX hd r17 (ci := 4) rfl rfl m18 dX3_placeOf_15 (hC 159 _ zm159 _ _ _ _ hw) q2605 q2607 qs46 zh7 q2608 q136 zn159 rfl (Nat.le_of_ble_eq_true rfl) (st := [.int (1 : Int32), .int p9]) rfl (zcs8 (Nat.le_of_ble_eq_true rfl)) rfl (zkI (fun v12 s13 hw => ?_)) (zout hX hR hTb)
  refine z_ishl hX dX3_placeOf_18 ?_
  refine z_icmp_ge hX dX3_placeOf_19 (tgt := 71) rfl (fun c19 => ?_) (fun c19 => ?_)
  · have hw := hw.1 c19
    refine z_iload_n hX dX3_placeOf_71 rfl (i := 2) rfl ?_
    exact z_ireturn hX hR dX3_placeOf_72 rfl hw
  · have hw := hw.2 c19
    refine z_aload_n hX dX3_placeOf_22 rfl (i := 0) rfl ?_
    refine z_iload hX dX3_placeOf_23 (i := 4) rfl ?_
    obtain ⟨a23, f24, r25, m26, hw⟩ := hw
    refine z_invV hX hd r25 (ci := 4) rfl rfl m26 dX3_placeOf_25 (hC 179 _ zm179 _ _ _ _ hw) q2683 q2685 qs59 zh7 q2686 q136 zn179 rfl (Nat.le_of_ble_eq_true rfl) (st := []) rfl (zcs8 (Nat.le_of_ble_eq_true rfl)) rfl (zkI (fun v20 s21 hw => ?_)) (zout hX hR hTb)
    refine zJ_w (P := fun (j : Int32 → zS → Prop) => ∀ (p27 : Int32) (s28 : zS), j p27 s28 → zW X s28 65 [some (va_rf (some a0)), some (.int x1), some (.int p27), some (.int v1), some (.int p9), none] []) hw (fun p27 s28 hw => ?_) (fun j29 hj29 hw => ?_)
    · obtain ⟨v30, e31⟩ : ∃ y : Int32, y = p9 + (1 : Int32) := ⟨_, rfl⟩
      refine z_iinc hX dX3_placeOf_65 (i := 4) (v := v30) rfl (by rw [e31]; rfl) (Nat.le_of_ble_eq_true rfl) rfl (ls2 := [some (va_rf (some a0)), some (.int x1), some (.int p27), some (.int v1), some (.int v30), none]) rfl ?_
      have hw := hw v30 e31
      refine z_goto hX dX3_placeOf_68 (tgt := 11) rfl ?_
      exact hrec11 _ _ _ hw
    · refine z_if_eq hX dX3_placeOf_28 (tgt := 65) rfl (fun c32 => ?_) (fun c32 => ?_)
      · have hw := hw.1 c32
        exact hj29 _ _ hw
      · have hw := hw.2 c32
        refine z_aload_n hX dX3_placeOf_31 rfl (i := 0) rfl ?_
        refine z_iload hX dX3_placeOf_32 (i := 4) rfl ?_
        obtain ⟨a36, f37, r38, m39, hw⟩ := hw
        refine z_invV hX hd r38 (ci := 4) rfl rfl m39 dX3_placeOf_34 (hC 181 _ zm181 _ _ _ _ hw) q2691 q2693 qs61 zh7 q2694 q136 zn181 rfl (Nat.le_of_ble_eq_true rfl) (st := []) rfl (zcs8 (Nat.le_of_ble_eq_true rfl)) rfl (zkI (fun v33 s34 hw => ?_)) (zout hX hR hTb)
        refine z_iload_n hX dX3_placeOf_37 rfl (i := 3) rfl ?_
        refine z_isub hX dX3_placeOf_38 ?_
        refine z_istore hX dX3_placeOf_39 (i := 5) (Nat.le_of_ble_eq_true rfl) rfl (ls2 := [some (va_rf (some a0)), some (.int x1), some (.int p8), some (.int v1), some (.int p9), some (.int (v33 - v1))]) rfl ?_
        refine z_iload_n hX dX3_placeOf_41 rfl (i := 2) rfl ?_
        refine z_iload hX dX3_placeOf_42 (i := 5) rfl ?_
        refine zJ_w (P := fun (j : Int32 → zS → Prop) => ∀ (p40 : Int32) (s41 : zS), j p40 s41 → zW X s41 63 [some (va_rf (some a0)), some (.int x1), none, some (.int v1), some (.int p9), none] [.int p40, .int p8]) hw (fun p40 s41 hw => ?_) (fun j42 hj42 hw => ?_)
        · refine z_iadd hX dX3_placeOf_63 ?_
          refine z_istore_n hX dX3_placeOf_64 rfl (i := 2) (Nat.le_of_ble_eq_true rfl) rfl (ls2 := [some (va_rf (some a0)), some (.int x1), some (.int (p8 + p40)), some (.int v1), some (.int p9), none]) rfl ?_
          exact hj29 _ _ hw
        · refine zJ_w (P := fun (j : zS → Prop) => ∀  (s43 : zS), j  s43 → zW X s43 58 [some (va_rf (some a0)), some (.int x1), none, some (.int v1), some (.int p9), none] [.int p8]) hw (fun  s43 hw => ?_) (fun j44 hj44 hw => ?_)
          · refine z_iconst hX (v := (1 : Int32)) dX3_placeOf_58 (by decide) ?_
            refine z_goto hX dX3_placeOf_59 (tgt := 63) rfl ?_
            exact hj42 _ _ hw
          · refine z_if_gt hX dX3_placeOf_44 (tgt := 58) rfl (fun c45 => ?_) (fun c45 => ?_)
            · have hw := hw.1 c45
              refine z_sub (ls' := [some (va_rf (some a0)), some (.int x1), none, some (.int v1), some (.int p9), none]) (zsS (zsS (zsN (zsS (zsS (zsN (zs0))))))) ?_
              exact hj44  _ hw
            · have hw := hw.2 c45
              refine z_iload hX dX3_placeOf_47 (i := 5) rfl ?_
              refine zJ_w (P := fun (j : zS → Prop) => ∀  (s46 : zS), j  s46 → zW X s46 62 [some (va_rf (some a0)), some (.int x1), none, some (.int v1), some (.int p9), none] [.int p8]) hw (fun  s46 hw => ?_) (fun j47 hj47 hw => ?_)
              · refine z_iconst hX (v := (0 : Int32)) dX3_placeOf_62 (by decide) ?_
                exact hj42 _ _ hw
              · refine z_if_ne hX dX3_placeOf_49 (tgt := 62) rfl (fun c48 => ?_) (fun c48 => ?_)
                · have hw := hw.1 c48
                  refine z_sub (ls' := [some (va_rf (some a0)), some (.int x1), none, some (.int v1), some (.int p9), none]) (zsS (zsS (zsN (zsS (zsS (zsN (zs0))))))) ?_
                  exact hj47  _ hw
                · have hw := hw.2 c48
                  refine z_iload hX dX3_placeOf_52 (i := 4) rfl ?_
                  refine z_iload_n hX dX3_placeOf_54 rfl (i := 1) rfl ?_
                  refine z_icmp_ge hX dX3_placeOf_55 (tgt := 62) rfl (fun c49 => ?_) (fun c49 => ?_)
                  · have hw := hw.1 c49
                    refine z_sub (ls' := [some (va_rf (some a0)), some (.int x1), none, some (.int v1), some (.int p9), none]) (zsS (zsS (zsN (zsS (zsS (zsN (zs0))))))) ?_
                    exact hj47  _ hw
                  · have hw := hw.2 c49
                    refine z_sub (ls' := [some (va_rf (some a0)), some (.int x1), none, some (.int v1), some (.int p9), none]) (zsS (zsS (zsN (zsS (zsS (zsN (zs0))))))) ?_
                    exact hj44  _ hw
abbrev cX3_resultOf : ByteArray := prog_28_method_20_code
def yX3_resultOf : MethodName := ⟨RX3, "resultOf", "(I)I"⟩
def dkwX3_resultOf_0 : List UInt8 := [42, 180, 0, 25, 27, 46, 42, 180, 0, 31, 42, 180, 0, 34, 27, 46, 46, 100, 172]
abbrev dktX3_resultOf_0 : List UInt8 := dkwX3_resultOf_0 ++ []
theorem dksX3_resultOf_0 : cX3_resultOf.data.toList.drop 0 = dktX3_resultOf_0 := by decide +kernel
theorem dX3_resultOf_0 : decode cX3_resultOf 0 = .ok (.aload_n 0, 1) := dk_42 (dk_at dksX3_resultOf_0 0 rfl rfl)
theorem dX3_resultOf_1 : decode cX3_resultOf 1 = .ok (.getfield 25, 3) := dk_180 0 25 (dk_at dksX3_resultOf_0 1 rfl rfl)
theorem dX3_resultOf_4 : decode cX3_resultOf 4 = .ok (.iload_n 1, 1) := dk_27 (dk_at dksX3_resultOf_0 4 rfl rfl)
theorem dX3_resultOf_5 : decode cX3_resultOf 5 = .ok (.iaload, 1) := dk_46 (dk_at dksX3_resultOf_0 5 rfl rfl)
theorem dX3_resultOf_6 : decode cX3_resultOf 6 = .ok (.aload_n 0, 1) := dk_42 (dk_at dksX3_resultOf_0 6 rfl rfl)
theorem dX3_resultOf_7 : decode cX3_resultOf 7 = .ok (.getfield 31, 3) := dk_180 0 31 (dk_at dksX3_resultOf_0 7 rfl rfl)
theorem dX3_resultOf_10 : decode cX3_resultOf 10 = .ok (.aload_n 0, 1) := dk_42 (dk_at dksX3_resultOf_0 10 rfl rfl)
theorem dX3_resultOf_11 : decode cX3_resultOf 11 = .ok (.getfield 34, 3) := dk_180 0 34 (dk_at dksX3_resultOf_0 11 rfl rfl)
theorem dX3_resultOf_14 : decode cX3_resultOf 14 = .ok (.iload_n 1, 1) := dk_27 (dk_at dksX3_resultOf_0 14 rfl rfl)
theorem dX3_resultOf_15 : decode cX3_resultOf 15 = .ok (.iaload, 1) := dk_46 (dk_at dksX3_resultOf_0 15 rfl rfl)
theorem dX3_resultOf_16 : decode cX3_resultOf 16 = .ok (.iaload, 1) := dk_46 (dk_at dksX3_resultOf_0 16 rfl rfl)
theorem dX3_resultOf_17 : decode cX3_resultOf 17 = .ok (.isub, 1) := dk_100 (dk_at dksX3_resultOf_0 17 rfl rfl)
theorem dX3_resultOf_18 : decode cX3_resultOf 18 = .ok (.ireturn, 1) := dk_172 (dk_at dksX3_resultOf_0 18 rfl rfl)
/-- PackingDuelModel.resultOf(I)I -/
def zb181 (G : zPg) (C : zO) (args : List Value) (Q : zQ) (Y : zY) (σ : zS) : Prop := ∃ (a0 : Nat) (x1 : Int32), args = [.ref a0, .int x1] ∧ (zgR σ (some a0) 4 8 (fun v1 => zaI σ 0 v1 x1 (fun v13 => zgR σ (some a0) 4 10 (fun v15 => zgR σ (some a0) 4 11 (fun v21 => zaI σ 0 v21 x1 (fun v33 => zaI σ 0 v15 v33 (fun v41 => Q (some (.int (v13 - v41))) σ)))))))
set_option maxHeartbeats 4000000 in
theorem wk181 {l : Launch} {g : zG} {d : Nat} {C : zO} (hG : zGk g) (hC : zSound l g d C) {args : List Value} {Q : zQ} {Y : zY} {σ : zS} (hw : zb181 (zpg g) C args Q Y σ) : zMet l g (d + 1) (⟨"PackingDuelModel", "resultOf", "(I)I"⟩, Cond.code ⟨"PackingDuelModel", "resultOf", "(I)I"⟩ prog_28_method_20_code 2 (Option.some FieldType.int)) args σ Q Y := by
  obtain ⟨a0, x1, rfl, hw⟩ := hw
  refine zof hG (by decide +kernel) [false, false] ⟨rfl, rfl, trivial⟩ (Nat.le_of_ble_eq_true rfl) (ls := [some (va_rf (some a0)), some (.int x1)]) rfl ?_
  intro X hX hR hTb hd1 hd2 hl hg hnm
  subst hl
  subst hg
  have hd : zDep X d := ⟨hd1, hd2⟩
  refine z_aload_n hX dX3_resultOf_0 rfl (i := 0) rfl ?_
  obtain ⟨a2, f3, v1, r4, m5, e6, hw⟩ := hw
  refine z_get hX zc4 (k := 8) dX3_resultOf_1 (Nat.le_of_ble_eq_true rfl) (zlk hX q2477) r4 m5 e6 ?_
  refine z_iload_n hX dX3_resultOf_4 rfl (i := 1) rfl ?_
  obtain ⟨a7, n8, f9, r10, m11, i12, hw⟩ := hw
  refine z_iald hX dX3_resultOf_5 r10 m11 i12 ?_
  revert hw
  generalize f9 (Int32.toNatClampNeg x1) = v13
  intro hw
  refine z_aload_n hX dX3_resultOf_6 rfl (i := 0) rfl ?_
  obtain ⟨a16, f17, v15, r18, m19, e20, hw⟩ := hw
  refine z_get hX zc4 (k := 10) dX3_resultOf_7 (Nat.le_of_ble_eq_true rfl) (zlk hX q2479) r18 m19 e20 ?_
  refine z_aload_n hX dX3_resultOf_10 rfl (i := 0) rfl ?_
  obtain ⟨a22, f23, v21, r24, m25, e26, hw⟩ := hw
  refine z_get hX zc4 (k := 11) dX3_resultOf_11 (Nat.le_of_ble_eq_true rfl) (zlk hX q2480) r24 m25 e26 ?_
  refine z_iload_n hX dX3_resultOf_14 rfl (i := 1) rfl ?_
  obtain ⟨a27, n28, f29, r30, m31, i32, hw⟩ := hw
  refine z_iald hX dX3_resultOf_15 r30 m31 i32 ?_
  revert hw
  generalize f29 (Int32.toNatClampNeg x1) = v33
  intro hw
  obtain ⟨a35, n36, f37, r38, m39, i40, hw⟩ := hw
  refine z_iald hX dX3_resultOf_16 r38 m39 i40 ?_
  revert hw
  generalize f37 (Int32.toNatClampNeg v33) = v41
  intro hw
  refine z_isub hX dX3_resultOf_17 ?_
  exact z_ireturn hX hR dX3_resultOf_18 rfl hw
abbrev cX3_plansWith : ByteArray := prog_28_method_70_code
def yX3_plansWith : MethodName := ⟨RX3, "plansWith", "(I)I"⟩
def dkwX3_plansWith_2 : List UInt8 := [132, 3, 1, 167, 255, 218, 28, 172]
abbrev dktX3_plansWith_2 : List UInt8 := dkwX3_plansWith_2 ++ []
def dkwX3_plansWith_1 : List UInt8 := [42, 29, 182, 0, 136, 153, 0, 16, 42, 29, 182, 0, 147, 27, 161, 0, 7, 4, 167, 0, 4, 3, 96, 61]
abbrev dktX3_plansWith_1 : List UInt8 := dkwX3_plansWith_1 ++ dktX3_plansWith_2
def dkwX3_plansWith_0 : List UInt8 := [42, 3, 181, 0, 103, 42, 182, 1, 42, 3, 61, 3, 62, 29, 4, 42, 182, 0, 106, 120, 162, 0, 34, 28]
abbrev dktX3_plansWith_0 : List UInt8 := dkwX3_plansWith_0 ++ dktX3_plansWith_1
theorem dksX3_plansWith_0 : cX3_plansWith.data.toList.drop 0 = dktX3_plansWith_0 := by decide +kernel
theorem dksX3_plansWith_1 : cX3_plansWith.data.toList.drop 24 = dktX3_plansWith_1 := dk_seg dksX3_plansWith_0 24 rfl rfl
theorem dksX3_plansWith_2 : cX3_plansWith.data.toList.drop 48 = dktX3_plansWith_2 := dk_seg dksX3_plansWith_1 24 rfl rfl
theorem dX3_plansWith_0 : decode cX3_plansWith 0 = .ok (.aload_n 0, 1) := dk_42 (dk_at dksX3_plansWith_0 0 rfl rfl)
theorem dX3_plansWith_1 : decode cX3_plansWith 1 = .ok (.iconst 0, 1) := dk_3 (dk_at dksX3_plansWith_0 1 rfl rfl)
theorem dX3_plansWith_2 : decode cX3_plansWith 2 = .ok (.putfield 103, 3) := dk_181 0 103 (dk_at dksX3_plansWith_0 2 rfl rfl)
theorem dX3_plansWith_5 : decode cX3_plansWith 5 = .ok (.aload_n 0, 1) := dk_42 (dk_at dksX3_plansWith_0 5 rfl rfl)
theorem dX3_plansWith_6 : decode cX3_plansWith 6 = .ok (.invokevirtual 298, 3) := dk_182 1 42 (dk_at dksX3_plansWith_0 6 rfl rfl)
theorem dX3_plansWith_9 : decode cX3_plansWith 9 = .ok (.iconst 0, 1) := dk_3 (dk_at dksX3_plansWith_0 9 rfl rfl)
theorem dX3_plansWith_10 : decode cX3_plansWith 10 = .ok (.istore_n 2, 1) := dk_61 (dk_at dksX3_plansWith_0 10 rfl rfl)
theorem dX3_plansWith_11 : decode cX3_plansWith 11 = .ok (.iconst 0, 1) := dk_3 (dk_at dksX3_plansWith_0 11 rfl rfl)
theorem dX3_plansWith_12 : decode cX3_plansWith 12 = .ok (.istore_n 3, 1) := dk_62 (dk_at dksX3_plansWith_0 12 rfl rfl)
theorem dX3_plansWith_13 : decode cX3_plansWith 13 = .ok (.iload_n 3, 1) := dk_29 (dk_at dksX3_plansWith_0 13 rfl rfl)
theorem dX3_plansWith_14 : decode cX3_plansWith 14 = .ok (.iconst 1, 1) := dk_4 (dk_at dksX3_plansWith_0 14 rfl rfl)
theorem dX3_plansWith_15 : decode cX3_plansWith 15 = .ok (.aload_n 0, 1) := dk_42 (dk_at dksX3_plansWith_0 15 rfl rfl)
theorem dX3_plansWith_16 : decode cX3_plansWith 16 = .ok (.invokevirtual 106, 3) := dk_182 0 106 (dk_at dksX3_plansWith_0 16 rfl rfl)
theorem dX3_plansWith_19 : decode cX3_plansWith 19 = .ok (.ishl, 1) := dk_120 (dk_at dksX3_plansWith_0 19 rfl rfl)
theorem dX3_plansWith_20 : decode cX3_plansWith 20 = .ok (.if_icmp .ge 34, 3) := dk_162 0 34 (dk_at dksX3_plansWith_0 20 rfl rfl)
theorem dX3_plansWith_23 : decode cX3_plansWith 23 = .ok (.iload_n 2, 1) := dk_28 (dk_at dksX3_plansWith_0 23 rfl rfl)
theorem dX3_plansWith_24 : decode cX3_plansWith 24 = .ok (.aload_n 0, 1) := dk_42 (dk_at dksX3_plansWith_1 0 rfl rfl)
theorem dX3_plansWith_25 : decode cX3_plansWith 25 = .ok (.iload_n 3, 1) := dk_29 (dk_at dksX3_plansWith_1 1 rfl rfl)
theorem dX3_plansWith_26 : decode cX3_plansWith 26 = .ok (.invokevirtual 136, 3) := dk_182 0 136 (dk_at dksX3_plansWith_1 2 rfl rfl)
theorem dX3_plansWith_29 : decode cX3_plansWith 29 = .ok (.ifCond .eq 16, 3) := dk_153 0 16 (dk_at dksX3_plansWith_1 5 rfl rfl)
theorem dX3_plansWith_32 : decode cX3_plansWith 32 = .ok (.aload_n 0, 1) := dk_42 (dk_at dksX3_plansWith_1 8 rfl rfl)
theorem dX3_plansWith_33 : decode cX3_plansWith 33 = .ok (.iload_n 3, 1) := dk_29 (dk_at dksX3_plansWith_1 9 rfl rfl)
theorem dX3_plansWith_34 : decode cX3_plansWith 34 = .ok (.invokevirtual 147, 3) := dk_182 0 147 (dk_at dksX3_plansWith_1 10 rfl rfl)
theorem dX3_plansWith_37 : decode cX3_plansWith 37 = .ok (.iload_n 1, 1) := dk_27 (dk_at dksX3_plansWith_1 13 rfl rfl)
theorem dX3_plansWith_38 : decode cX3_plansWith 38 = .ok (.if_icmp .lt 7, 3) := dk_161 0 7 (dk_at dksX3_plansWith_1 14 rfl rfl)
theorem dX3_plansWith_41 : decode cX3_plansWith 41 = .ok (.iconst 1, 1) := dk_4 (dk_at dksX3_plansWith_1 17 rfl rfl)
theorem dX3_plansWith_42 : decode cX3_plansWith 42 = .ok (.goto 4, 3) := dk_167 0 4 (dk_at dksX3_plansWith_1 18 rfl rfl)
theorem dX3_plansWith_45 : decode cX3_plansWith 45 = .ok (.iconst 0, 1) := dk_3 (dk_at dksX3_plansWith_1 21 rfl rfl)
theorem dX3_plansWith_46 : decode cX3_plansWith 46 = .ok (.iadd, 1) := dk_96 (dk_at dksX3_plansWith_1 22 rfl rfl)
theorem dX3_plansWith_47 : decode cX3_plansWith 47 = .ok (.istore_n 2, 1) := dk_61 (dk_at dksX3_plansWith_1 23 rfl rfl)
theorem dX3_plansWith_48 : decode cX3_plansWith 48 = .ok (.iinc 3 1, 3) := dk_132 3 1 (dk_at dksX3_plansWith_2 0 rfl rfl)
theorem dX3_plansWith_51 : decode cX3_plansWith 51 = .ok (.goto (-38), 3) := dk_167 255 218 (dk_at dksX3_plansWith_2 3 rfl rfl)
theorem dX3_plansWith_54 : decode cX3_plansWith 54 = .ok (.iload_n 2, 1) := dk_28 (dk_at dksX3_plansWith_2 6 rfl rfl)
theorem dX3_plansWith_55 : decode cX3_plansWith 55 = .ok (.ireturn, 1) := dk_172 (dk_at dksX3_plansWith_2 7 rfl rfl)
/-- PackingDuelModel.plansWith(I)I -/
def zb182 (G : zPg) (C : zO) (args : List Value) (Q : zQ) (Y : zY) (σ : zS) : Prop := ∃ (a0 : Nat) (x1 : Int32), args = [.ref a0, .int x1] ∧ (zput σ G.1 (some a0) 4 5 (.int (0 : Int32)) (fun s1 => zrc s1 (some a0) 4 (fun a12 => zcl C 177 [.ref a12] Y s1 (zqV (fun s10 => ∃ n, zIt (fun _ _ _ => False) (fun rec19 (p16 : Int32) (p17 : Int32) (s18 : zS) => zrc s18 (some a0) 4 (fun a23 => zcl C 159 [.ref a23] Y s18 (zqI (fun v20 s21 => ((((1 : Int32) <<< (v20 &&& 31)) ≤ p17) → Q (some (.int p16)) s21) ∧ ((¬ ((1 : Int32) <<< (v20 &&& 31)) ≤ p17) → zrc s21 (some a0) 4 (fun a31 => zcl C 179 [.ref a31, .int p17] Y s21 (zqI (fun v28 s29 => zJ (fun (p35 : Int32) (s36 : zS) => (∀ v38 : Int32, v38 = p17 + (1 : Int32) → rec19 (p16 + p35) v38 s36)) (fun (j37 : Int32 → zS → Prop) => zJ (fun  (s40 : zS) => j37 (0 : Int32) s40) (fun (j41 : zS → Prop) => ((v28 = 0) → j41 s29) ∧ ((¬ v28 = 0) → zrc s29 (some a0) 4 (fun a46 => zcl C 181 [.ref a46, .int p17] Y s29 (zqI (fun v43 s44 => ((v43 < x1) → j41 s44) ∧ ((¬ v43 < x1) → j37 (1 : Int32) s44))))))))))))))) n (0 : Int32) (0 : Int32) s10)))))
set_option maxHeartbeats 4000000 in
theorem wk182 {l : Launch} {g : zG} {d : Nat} {C : zO} (hG : zGk g) (hC : zSound l g d C) {args : List Value} {Q : zQ} {Y : zY} {σ : zS} (hw : zb182 (zpg g) C args Q Y σ) : zMet l g (d + 1) (⟨"PackingDuelModel", "plansWith", "(I)I"⟩, Cond.code ⟨"PackingDuelModel", "plansWith", "(I)I"⟩ prog_28_method_70_code 4 (Option.some FieldType.int)) args σ Q Y := by
  obtain ⟨a0, x1, rfl, hw⟩ := hw
  refine zof hG (by decide +kernel) [false, false] ⟨rfl, rfl, trivial⟩ (Nat.le_of_ble_eq_true rfl) (ls := [some (va_rf (some a0)), some (.int x1), none, none]) rfl ?_
  intro X hX hR hTb hd1 hd2 hl hg hnm
  subst hl
  subst hg
  have hd : zDep X d := ⟨hd1, hd2⟩
  refine z_aload_n hX dX3_plansWith_0 rfl (i := 0) rfl ?_
  refine z_iconst hX (v := (0 : Int32)) dX3_plansWith_1 (by decide) ?_
  obtain ⟨a3, f4, r5, g6, m7, l8, hw⟩ := hw
  refine z_put hX zc4 (k := 5) dX3_plansWith_2 (Nat.le_of_ble_eq_true rfl) (zlk hX q2474) rfl rfl rfl r5 g6 m7 l8 (z_nm (fun s1 e2 => ?_))
  have hw := hw s1 e2
  refine z_aload_n hX dX3_plansWith_5 rfl (i := 0) rfl ?_
  obtain ⟨a12, f13, r14, m15, hw⟩ := hw
  refine z_invV hX hd r14 (ci := 4) rfl rfl m15 dX3_plansWith_6 (hC 177 _ zm177 _ _ _ _ hw) q2675 q2677 qs57 zh7 q2678 q136 zn177 rfl (Nat.le_of_ble_eq_true rfl) (st := []) rfl (zcs8 (Nat.le_of_ble_eq_true rfl)) rfl (zkV (fun s10 hw => ?_)) (zout hX hR hTb)
  refine z_iconst hX (v := (0 : Int32)) dX3_plansWith_9 (by decide) ?_
  refine z_istore_n hX dX3_plansWith_10 rfl (i := 2) (Nat.le_of_ble_eq_true rfl) rfl (ls2 := [some (va_rf (some a0)), some (.int x1), some (.int (0 : Int32)), none]) rfl ?_
  refine z_iconst hX (v := (0 : Int32)) dX3_plansWith_11 (by decide) ?_
  refine z_istore_n hX dX3_plansWith_12 rfl (i := 3) (Nat.le_of_ble_eq_true rfl) rfl (ls2 := [some (va_rf (some a0)), some (.int x1), some (.int (0 : Int32)), some (.int (0 : Int32))]) rfl ?_
  obtain ⟨n51, hw⟩ := hw
  refine zIt_w (P := fun (j : Int32 → Int32 → zS → Prop) => ∀ (p16 : Int32) (p17 : Int32) (s18 : zS), j p16 p17 s18 → zW X s18 13 [some (va_rf (some a0)), some (.int x1), some (.int p16), some (.int p17)] []) (fun _ _ _ h => h.elim) (fun rec19 hrec19 p16 p17 s18 hw => ?_) n51 _ _ _ hw
  refine z_iload_n hX dX3_plansWith_13 rfl (i := 3) rfl ?_
  refine z_iconst hX (v := (1 : Int32)) dX3_plansWith_14 (by decide) ?_
  refine z_aload_n hX dX3_plansWith_15 rfl (i := 0) rfl ?_
  obtain ⟨a23, f24, r25, m26, hw⟩ := hw
  refine z_invV hX hd r25 (ci := 4) rfl rfl m26 dX3_plansWith_16 (hC 159 _ zm159 _ _ _ _ hw) q2605 q2607 qs46 zh7 q2608 q136 zn159 rfl (Nat.le_of_ble_eq_true rfl) (st := [.int (1 : Int32), .int p17]) rfl (zcs8 (Nat.le_of_ble_eq_true rfl)) rfl (zkI (fun v20 s21 hw => ?_)) (zout hX hR hTb)
  refine z_ishl hX dX3_plansWith_19 ?_
  refine z_icmp_ge hX dX3_plansWith_20 (tgt := 54) rfl (fun c27 => ?_) (fun c27 => ?_)
  · have hw := hw.1 c27
    refine z_iload_n hX dX3_plansWith_54 rfl (i := 2) rfl ?_
    exact z_ireturn hX hR dX3_plansWith_55 rfl hw
  · have hw := hw.2 c27
    refine z_iload_n hX dX3_plansWith_23 rfl (i := 2) rfl ?_
    refine z_aload_n hX dX3_plansWith_24 rfl (i := 0) rfl ?_
    refine z_iload_n hX dX3_plansWith_25 rfl (i := 3) rfl ?_
    obtain ⟨a31, f32, r33, m34, hw⟩ := hw
    refine z_invV hX hd r33 (ci := 4) rfl rfl m34 dX3_plansWith_26 (hC 179 _ zm179 _ _ _ _ hw) q2683 q2685 qs59 zh7 q2686 q136 zn179 rfl (Nat.le_of_ble_eq_true rfl) (st := [.int p16]) rfl (zcs8 (Nat.le_of_ble_eq_true rfl)) rfl (zkI (fun v28 s29 hw => ?_)) (zout hX hR hTb)
    refine zJ_w (P := fun (j : Int32 → zS → Prop) => ∀ (p35 : Int32) (s36 : zS), j p35 s36 → zW X s36 46 [some (va_rf (some a0)), some (.int x1), none, some (.int p17)] [.int p35, .int p16]) hw (fun p35 s36 hw => ?_) (fun j37 hj37 hw => ?_)
    · refine z_iadd hX dX3_plansWith_46 ?_
      refine z_istore_n hX dX3_plansWith_47 rfl (i := 2) (Nat.le_of_ble_eq_true rfl) rfl (ls2 := [some (va_rf (some a0)), some (.int x1), some (.int (p16 + p35)), some (.int p17)]) rfl ?_
      obtain ⟨v38, e39⟩ : ∃ y : Int32, y = p17 + (1 : Int32) := ⟨_, rfl⟩
      refine z_iinc hX dX3_plansWith_48 (i := 3) (v := v38) rfl (by rw [e39]; rfl) (Nat.le_of_ble_eq_true rfl) rfl (ls2 := [some (va_rf (some a0)), some (.int x1), some (.int (p16 + p35)), some (.int v38)]) rfl ?_
      have hw := hw v38 e39
      refine z_goto hX dX3_plansWith_51 (tgt := 13) rfl ?_
      exact hrec19 _ _ _ hw
    · refine zJ_w (P := fun (j : zS → Prop) => ∀  (s40 : zS), j  s40 → zW X s40 45 [some (va_rf (some a0)), some (.int x1), none, some (.int p17)] [.int p16]) hw (fun  s40 hw => ?_) (fun j41 hj41 hw => ?_)
      · refine z_iconst hX (v := (0 : Int32)) dX3_plansWith_45 (by decide) ?_
        exact hj37 _ _ hw
      · refine z_if_eq hX dX3_plansWith_29 (tgt := 45) rfl (fun c42 => ?_) (fun c42 => ?_)
        · have hw := hw.1 c42
          refine z_sub (ls' := [some (va_rf (some a0)), some (.int x1), none, some (.int p17)]) (zsS (zsS (zsN (zsS (zs0))))) ?_
          exact hj41  _ hw
        · have hw := hw.2 c42
          refine z_aload_n hX dX3_plansWith_32 rfl (i := 0) rfl ?_
          refine z_iload_n hX dX3_plansWith_33 rfl (i := 3) rfl ?_
          obtain ⟨a46, f47, r48, m49, hw⟩ := hw
          refine z_invV hX hd r48 (ci := 4) rfl rfl m49 dX3_plansWith_34 (hC 181 _ zm181 _ _ _ _ hw) q2691 q2693 qs61 zh7 q2694 q136 zn181 rfl (Nat.le_of_ble_eq_true rfl) (st := [.int p16]) rfl (zcs8 (Nat.le_of_ble_eq_true rfl)) rfl (zkI (fun v43 s44 hw => ?_)) (zout hX hR hTb)
          refine z_iload_n hX dX3_plansWith_37 rfl (i := 1) rfl ?_
          refine z_icmp_lt hX dX3_plansWith_38 (tgt := 45) rfl (fun c50 => ?_) (fun c50 => ?_)
          · have hw := hw.1 c50
            refine z_sub (ls' := [some (va_rf (some a0)), some (.int x1), none, some (.int p17)]) (zsS (zsS (zsN (zsS (zs0))))) ?_
            exact hj41  _ hw
          · have hw := hw.2 c50
            refine z_iconst hX (v := (1 : Int32)) dX3_plansWith_41 (by decide) ?_
            refine z_goto hX dX3_plansWith_42 (tgt := 46) rfl ?_
            refine z_sub (ls' := [some (va_rf (some a0)), some (.int x1), none, some (.int p17)]) (zsS (zsS (zsN (zsS (zs0))))) ?_
            exact hj37 _ _ hw
abbrev cX3_leastThreshold : ByteArray := prog_28_method_71_code
def yX3_leastThreshold : MethodName := ⟨RX3, "leastThreshold", "(I)I"⟩
def dkwX3_leastThreshold_3 : List UInt8 := [28, 172, 132, 3, 1, 167, 255, 202, 132, 2, 1, 167, 255, 187, 2, 172]
abbrev dktX3_leastThreshold_3 : List UInt8 := dkwX3_leastThreshold_3 ++ []
def dkwX3_leastThreshold_2 : List UInt8 := [167, 0, 8, 42, 29, 182, 0, 147, 54, 4, 42, 29, 182, 0, 136, 153, 0, 11, 21, 4, 27, 161, 0, 5]
abbrev dktX3_leastThreshold_2 : List UInt8 := dkwX3_leastThreshold_2 ++ dktX3_leastThreshold_3
def dkwX3_leastThreshold_1 : List UInt8 := [42, 182, 0, 106, 120, 162, 0, 50, 42, 29, 182, 1, 1, 28, 162, 0, 12, 42, 180, 0, 25, 29, 46]
abbrev dktX3_leastThreshold_1 : List UInt8 := dkwX3_leastThreshold_1 ++ dktX3_leastThreshold_2
def dkwX3_leastThreshold_0 : List UInt8 := [42, 3, 181, 0, 103, 42, 3, 4, 182, 0, 143, 3, 61, 28, 17, 0, 200, 163, 0, 68, 3, 62, 29, 4]
abbrev dktX3_leastThreshold_0 : List UInt8 := dkwX3_leastThreshold_0 ++ dktX3_leastThreshold_1
theorem dksX3_leastThreshold_0 : cX3_leastThreshold.data.toList.drop 0 = dktX3_leastThreshold_0 := by decide +kernel
theorem dksX3_leastThreshold_1 : cX3_leastThreshold.data.toList.drop 24 = dktX3_leastThreshold_1 := dk_seg dksX3_leastThreshold_0 24 rfl rfl
theorem dksX3_leastThreshold_2 : cX3_leastThreshold.data.toList.drop 47 = dktX3_leastThreshold_2 := dk_seg dksX3_leastThreshold_1 23 rfl rfl
theorem dksX3_leastThreshold_3 : cX3_leastThreshold.data.toList.drop 71 = dktX3_leastThreshold_3 := dk_seg dksX3_leastThreshold_2 24 rfl rfl
theorem dX3_leastThreshold_0 : decode cX3_leastThreshold 0 = .ok (.aload_n 0, 1) := dk_42 (dk_at dksX3_leastThreshold_0 0 rfl rfl)
theorem dX3_leastThreshold_1 : decode cX3_leastThreshold 1 = .ok (.iconst 0, 1) := dk_3 (dk_at dksX3_leastThreshold_0 1 rfl rfl)
theorem dX3_leastThreshold_2 : decode cX3_leastThreshold 2 = .ok (.putfield 103, 3) := dk_181 0 103 (dk_at dksX3_leastThreshold_0 2 rfl rfl)
theorem dX3_leastThreshold_5 : decode cX3_leastThreshold 5 = .ok (.aload_n 0, 1) := dk_42 (dk_at dksX3_leastThreshold_0 5 rfl rfl)
theorem dX3_leastThreshold_6 : decode cX3_leastThreshold 6 = .ok (.iconst 0, 1) := dk_3 (dk_at dksX3_leastThreshold_0 6 rfl rfl)
theorem dX3_leastThreshold_7 : decode cX3_leastThreshold 7 = .ok (.iconst 1, 1) := dk_4 (dk_at dksX3_leastThreshold_0 7 rfl rfl)
theorem dX3_leastThreshold_8 : decode cX3_leastThreshold 8 = .ok (.invokevirtual 143, 3) := dk_182 0 143 (dk_at dksX3_leastThreshold_0 8 rfl rfl)
theorem dX3_leastThreshold_11 : decode cX3_leastThreshold 11 = .ok (.iconst 0, 1) := dk_3 (dk_at dksX3_leastThreshold_0 11 rfl rfl)
theorem dX3_leastThreshold_12 : decode cX3_leastThreshold 12 = .ok (.istore_n 2, 1) := dk_61 (dk_at dksX3_leastThreshold_0 12 rfl rfl)
theorem dX3_leastThreshold_13 : decode cX3_leastThreshold 13 = .ok (.iload_n 2, 1) := dk_28 (dk_at dksX3_leastThreshold_0 13 rfl rfl)
theorem dX3_leastThreshold_14 : decode cX3_leastThreshold 14 = .ok (.sipush 200, 3) := dk_17 0 200 (dk_at dksX3_leastThreshold_0 14 rfl rfl)
theorem dX3_leastThreshold_17 : decode cX3_leastThreshold 17 = .ok (.if_icmp .gt 68, 3) := dk_163 0 68 (dk_at dksX3_leastThreshold_0 17 rfl rfl)
theorem dX3_leastThreshold_20 : decode cX3_leastThreshold 20 = .ok (.iconst 0, 1) := dk_3 (dk_at dksX3_leastThreshold_0 20 rfl rfl)
theorem dX3_leastThreshold_21 : decode cX3_leastThreshold 21 = .ok (.istore_n 3, 1) := dk_62 (dk_at dksX3_leastThreshold_0 21 rfl rfl)
theorem dX3_leastThreshold_22 : decode cX3_leastThreshold 22 = .ok (.iload_n 3, 1) := dk_29 (dk_at dksX3_leastThreshold_0 22 rfl rfl)
theorem dX3_leastThreshold_23 : decode cX3_leastThreshold 23 = .ok (.iconst 1, 1) := dk_4 (dk_at dksX3_leastThreshold_0 23 rfl rfl)
theorem dX3_leastThreshold_24 : decode cX3_leastThreshold 24 = .ok (.aload_n 0, 1) := dk_42 (dk_at dksX3_leastThreshold_1 0 rfl rfl)
theorem dX3_leastThreshold_25 : decode cX3_leastThreshold 25 = .ok (.invokevirtual 106, 3) := dk_182 0 106 (dk_at dksX3_leastThreshold_1 1 rfl rfl)
theorem dX3_leastThreshold_28 : decode cX3_leastThreshold 28 = .ok (.ishl, 1) := dk_120 (dk_at dksX3_leastThreshold_1 4 rfl rfl)
theorem dX3_leastThreshold_29 : decode cX3_leastThreshold 29 = .ok (.if_icmp .ge 50, 3) := dk_162 0 50 (dk_at dksX3_leastThreshold_1 5 rfl rfl)
theorem dX3_leastThreshold_32 : decode cX3_leastThreshold 32 = .ok (.aload_n 0, 1) := dk_42 (dk_at dksX3_leastThreshold_1 8 rfl rfl)
theorem dX3_leastThreshold_33 : decode cX3_leastThreshold 33 = .ok (.iload_n 3, 1) := dk_29 (dk_at dksX3_leastThreshold_1 9 rfl rfl)
theorem dX3_leastThreshold_34 : decode cX3_leastThreshold 34 = .ok (.invokevirtual 257, 3) := dk_182 1 1 (dk_at dksX3_leastThreshold_1 10 rfl rfl)
theorem dX3_leastThreshold_37 : decode cX3_leastThreshold 37 = .ok (.iload_n 2, 1) := dk_28 (dk_at dksX3_leastThreshold_1 13 rfl rfl)
theorem dX3_leastThreshold_38 : decode cX3_leastThreshold 38 = .ok (.if_icmp .ge 12, 3) := dk_162 0 12 (dk_at dksX3_leastThreshold_1 14 rfl rfl)
theorem dX3_leastThreshold_41 : decode cX3_leastThreshold 41 = .ok (.aload_n 0, 1) := dk_42 (dk_at dksX3_leastThreshold_1 17 rfl rfl)
theorem dX3_leastThreshold_42 : decode cX3_leastThreshold 42 = .ok (.getfield 25, 3) := dk_180 0 25 (dk_at dksX3_leastThreshold_1 18 rfl rfl)
theorem dX3_leastThreshold_45 : decode cX3_leastThreshold 45 = .ok (.iload_n 3, 1) := dk_29 (dk_at dksX3_leastThreshold_1 21 rfl rfl)
theorem dX3_leastThreshold_46 : decode cX3_leastThreshold 46 = .ok (.iaload, 1) := dk_46 (dk_at dksX3_leastThreshold_1 22 rfl rfl)
theorem dX3_leastThreshold_47 : decode cX3_leastThreshold 47 = .ok (.goto 8, 3) := dk_167 0 8 (dk_at dksX3_leastThreshold_2 0 rfl rfl)
theorem dX3_leastThreshold_50 : decode cX3_leastThreshold 50 = .ok (.aload_n 0, 1) := dk_42 (dk_at dksX3_leastThreshold_2 3 rfl rfl)
theorem dX3_leastThreshold_51 : decode cX3_leastThreshold 51 = .ok (.iload_n 3, 1) := dk_29 (dk_at dksX3_leastThreshold_2 4 rfl rfl)
theorem dX3_leastThreshold_52 : decode cX3_leastThreshold 52 = .ok (.invokevirtual 147, 3) := dk_182 0 147 (dk_at dksX3_leastThreshold_2 5 rfl rfl)
theorem dX3_leastThreshold_55 : decode cX3_leastThreshold 55 = .ok (.istore 4, 2) := dk_54 4 (dk_at dksX3_leastThreshold_2 8 rfl rfl)
theorem dX3_leastThreshold_57 : decode cX3_leastThreshold 57 = .ok (.aload_n 0, 1) := dk_42 (dk_at dksX3_leastThreshold_2 10 rfl rfl)
theorem dX3_leastThreshold_58 : decode cX3_leastThreshold 58 = .ok (.iload_n 3, 1) := dk_29 (dk_at dksX3_leastThreshold_2 11 rfl rfl)
theorem dX3_leastThreshold_59 : decode cX3_leastThreshold 59 = .ok (.invokevirtual 136, 3) := dk_182 0 136 (dk_at dksX3_leastThreshold_2 12 rfl rfl)
theorem dX3_leastThreshold_62 : decode cX3_leastThreshold 62 = .ok (.ifCond .eq 11, 3) := dk_153 0 11 (dk_at dksX3_leastThreshold_2 15 rfl rfl)
theorem dX3_leastThreshold_65 : decode cX3_leastThreshold 65 = .ok (.iload 4, 2) := dk_21 4 (dk_at dksX3_leastThreshold_2 18 rfl rfl)
theorem dX3_leastThreshold_67 : decode cX3_leastThreshold 67 = .ok (.iload_n 1, 1) := dk_27 (dk_at dksX3_leastThreshold_2 20 rfl rfl)
theorem dX3_leastThreshold_68 : decode cX3_leastThreshold 68 = .ok (.if_icmp .lt 5, 3) := dk_161 0 5 (dk_at dksX3_leastThreshold_2 21 rfl rfl)
theorem dX3_leastThreshold_71 : decode cX3_leastThreshold 71 = .ok (.iload_n 2, 1) := dk_28 (dk_at dksX3_leastThreshold_3 0 rfl rfl)
theorem dX3_leastThreshold_72 : decode cX3_leastThreshold 72 = .ok (.ireturn, 1) := dk_172 (dk_at dksX3_leastThreshold_3 1 rfl rfl)
theorem dX3_leastThreshold_73 : decode cX3_leastThreshold 73 = .ok (.iinc 3 1, 3) := dk_132 3 1 (dk_at dksX3_leastThreshold_3 2 rfl rfl)
theorem dX3_leastThreshold_76 : decode cX3_leastThreshold 76 = .ok (.goto (-54), 3) := dk_167 255 202 (dk_at dksX3_leastThreshold_3 5 rfl rfl)
theorem dX3_leastThreshold_79 : decode cX3_leastThreshold 79 = .ok (.iinc 2 1, 3) := dk_132 2 1 (dk_at dksX3_leastThreshold_3 8 rfl rfl)
theorem dX3_leastThreshold_82 : decode cX3_leastThreshold 82 = .ok (.goto (-69), 3) := dk_167 255 187 (dk_at dksX3_leastThreshold_3 11 rfl rfl)
theorem dX3_leastThreshold_85 : decode cX3_leastThreshold 85 = .ok (.iconst (-1), 1) := dk_2 (dk_at dksX3_leastThreshold_3 14 rfl rfl)
theorem dX3_leastThreshold_86 : decode cX3_leastThreshold 86 = .ok (.ireturn, 1) := dk_172 (dk_at dksX3_leastThreshold_3 15 rfl rfl)
/-- PackingDuelModel.leastThreshold(I)I -/
def zb183 (G : zPg) (C : zO) (args : List Value) (Q : zQ) (Y : zY) (σ : zS) : Prop := ∃ (a0 : Nat) (x1 : Int32), args = [.ref a0, .int x1] ∧ (zput σ G.1 (some a0) 4 5 (.int (0 : Int32)) (fun s1 => zrc s1 (some a0) 4 (fun a12 => zcl C 178 [.ref a12, .int (0 : Int32), .int (1 : Int32)] Y s1 (zqV (fun s10 => ∃ n, zIt (fun _ _ => False) (fun rec18 (p16 : Int32) (s17 : zS) => (((200 : Int32) < p16) → Q (some (.int (-1 : Int32))) s17) ∧ ((¬ (200 : Int32) < p16) → ∃ n, zIt (fun _ _ => False) (fun rec22 (p20 : Int32) (s21 : zS) => zrc s21 (some a0) 4 (fun a26 => zcl C 159 [.ref a26] Y s21 (zqI (fun v23 s24 => ((((1 : Int32) <<< (v23 &&& 31)) ≤ p20) → (∀ v31 : Int32, v31 = p16 + (1 : Int32) → rec18 v31 s24)) ∧ ((¬ ((1 : Int32) <<< (v23 &&& 31)) ≤ p20) → zrc s24 (some a0) 4 (fun a36 => zcl C 184 [.ref a36, .int p20] Y s24 (zqI (fun v33 s34 => zJ (fun (p40 : Int32) (s41 : zS) => zrc s41 (some a0) 4 (fun a46 => zcl C 179 [.ref a46, .int p20] Y s41 (zqI (fun v43 s44 => zJ (fun  (s50 : zS) => (∀ v52 : Int32, v52 = p20 + (1 : Int32) → rec22 v52 s50)) (fun (j51 : zS → Prop) => ((v43 = 0) → j51 s44) ∧ ((¬ v43 = 0) → ((p40 < x1) → j51 s44) ∧ ((¬ p40 < x1) → Q (some (.int p16)) s44))))))) (fun (j42 : Int32 → zS → Prop) => ((p16 ≤ v33) → zrc s34 (some a0) 4 (fun a60 => zcl C 181 [.ref a60, .int p20] Y s34 (zqI (fun v57 s58 => j42 v57 s58)))) ∧ ((¬ p16 ≤ v33) → zgR s34 (some a0) 4 8 (fun v64 => zaI s34 0 v64 p20 (fun v76 => j42 v76 s34)))))))))))) n (0 : Int32) s17)) n (0 : Int32) s10)))))
set_option maxHeartbeats 4000000 in
theorem wk183 {l : Launch} {g : zG} {d : Nat} {C : zO} (hG : zGk g) (hC : zSound l g d C) {args : List Value} {Q : zQ} {Y : zY} {σ : zS} (hw : zb183 (zpg g) C args Q Y σ) : zMet l g (d + 1) (⟨"PackingDuelModel", "leastThreshold", "(I)I"⟩, Cond.code ⟨"PackingDuelModel", "leastThreshold", "(I)I"⟩ prog_28_method_71_code 5 (Option.some FieldType.int)) args σ Q Y := by
  obtain ⟨a0, x1, rfl, hw⟩ := hw
  refine zof hG (by decide +kernel) [false, false] ⟨rfl, rfl, trivial⟩ (Nat.le_of_ble_eq_true rfl) (ls := [some (va_rf (some a0)), some (.int x1), none, none, none]) rfl ?_
  intro X hX hR hTb hd1 hd2 hl hg hnm
  subst hl
  subst hg
  have hd : zDep X d := ⟨hd1, hd2⟩
  refine z_aload_n hX dX3_leastThreshold_0 rfl (i := 0) rfl ?_
  refine z_iconst hX (v := (0 : Int32)) dX3_leastThreshold_1 (by decide) ?_
  obtain ⟨a3, f4, r5, g6, m7, l8, hw⟩ := hw
  refine z_put hX zc4 (k := 5) dX3_leastThreshold_2 (Nat.le_of_ble_eq_true rfl) (zlk hX q2474) rfl rfl rfl r5 g6 m7 l8 (z_nm (fun s1 e2 => ?_))
  have hw := hw s1 e2
  refine z_aload_n hX dX3_leastThreshold_5 rfl (i := 0) rfl ?_
  refine z_iconst hX (v := (0 : Int32)) dX3_leastThreshold_6 (by decide) ?_
  refine z_iconst hX (v := (1 : Int32)) dX3_leastThreshold_7 (by decide) ?_
  obtain ⟨a12, f13, r14, m15, hw⟩ := hw
  refine z_invV hX hd r14 (ci := 4) rfl rfl m15 dX3_leastThreshold_8 (hC 178 _ zm178 _ _ _ _ hw) q2679 q2681 qs58 zh7 q2682 q136 zn178 rfl (Nat.le_of_ble_eq_true rfl) (st := []) rfl (zcs8 (Nat.le_of_ble_eq_true rfl)) rfl (zkV (fun s10 hw => ?_)) (zout hX hR hTb)
  refine z_iconst hX (v := (0 : Int32)) dX3_leastThreshold_11 (by decide) ?_
  refine z_istore_n hX dX3_leastThreshold_12 rfl (i := 2) (Nat.le_of_ble_eq_true rfl) rfl (ls2 := [some (va_rf (some a0)), some (.int x1), some (.int (0 : Int32)), none, none]) rfl ?_
  obtain ⟨n79, hw⟩ := hw
  refine zIt_w (P := fun (j : Int32 → zS → Prop) => ∀ (p16 : Int32) (s17 : zS), j p16 s17 → zW X s17 13 [some (va_rf (some a0)), some (.int x1), some (.int p16), none, none] []) (fun _ _ h => h.elim) (fun rec18 hrec18 p16 s17 hw => ?_) n79 _ _ hw
  refine z_iload_n hX dX3_leastThreshold_13 rfl (i := 2) rfl ?_
  refine z_sipush hX (v := (200 : Int32)) dX3_leastThreshold_14 (by decide) ?_
  refine z_icmp_gt hX dX3_leastThreshold_17 (tgt := 85) rfl (fun c19 => ?_) (fun c19 => ?_)
  · have hw := hw.1 c19
    refine z_iconst hX (v := (-1 : Int32)) dX3_leastThreshold_85 (by decide) ?_
    exact z_ireturn hX hR dX3_leastThreshold_86 rfl hw
  · have hw := hw.2 c19
    refine z_iconst hX (v := (0 : Int32)) dX3_leastThreshold_20 (by decide) ?_
    refine z_istore_n hX dX3_leastThreshold_21 rfl (i := 3) (Nat.le_of_ble_eq_true rfl) rfl (ls2 := [some (va_rf (some a0)), some (.int x1), some (.int p16), some (.int (0 : Int32)), none]) rfl ?_
    obtain ⟨n78, hw⟩ := hw
    refine zIt_w (P := fun (j : Int32 → zS → Prop) => ∀ (p20 : Int32) (s21 : zS), j p20 s21 → zW X s21 22 [some (va_rf (some a0)), some (.int x1), some (.int p16), some (.int p20), none] []) (fun _ _ h => h.elim) (fun rec22 hrec22 p20 s21 hw => ?_) n78 _ _ hw
    refine z_iload_n hX dX3_leastThreshold_22 rfl (i := 3) rfl ?_
    refine z_iconst hX (v := (1 : Int32)) dX3_leastThreshold_23 (by decide) ?_
    refine z_aload_n hX dX3_leastThreshold_24 rfl (i := 0) rfl ?_
    obtain ⟨a26, f27, r28, m29, hw⟩ := hw
    refine z_invV hX hd r28 (ci := 4) rfl rfl m29 dX3_leastThreshold_25 (hC 159 _ zm159 _ _ _ _ hw) q2605 q2607 qs46 zh7 q2608 q136 zn159 rfl (Nat.le_of_ble_eq_true rfl) (st := [.int (1 : Int32), .int p20]) rfl (zcs8 (Nat.le_of_ble_eq_true rfl)) rfl (zkI (fun v23 s24 hw => ?_)) (zout hX hR hTb)
    refine z_ishl hX dX3_leastThreshold_28 ?_
    refine z_icmp_ge hX dX3_leastThreshold_29 (tgt := 79) rfl (fun c30 => ?_) (fun c30 => ?_)
    · have hw := hw.1 c30
      obtain ⟨v31, e32⟩ : ∃ y : Int32, y = p16 + (1 : Int32) := ⟨_, rfl⟩
      refine z_iinc hX dX3_leastThreshold_79 (i := 2) (v := v31) rfl (by rw [e32]; rfl) (Nat.le_of_ble_eq_true rfl) rfl (ls2 := [some (va_rf (some a0)), some (.int x1), some (.int v31), some (.int p20), none]) rfl ?_
      have hw := hw v31 e32
      refine z_goto hX dX3_leastThreshold_82 (tgt := 13) rfl ?_
      refine z_sub (ls' := [some (va_rf (some a0)), some (.int x1), some (.int v31), none, none]) (zsS (zsS (zsS (zsN (zsN (zs0)))))) ?_
      exact hrec18 _ _ hw
    · have hw := hw.2 c30
      refine z_aload_n hX dX3_leastThreshold_32 rfl (i := 0) rfl ?_
      refine z_iload_n hX dX3_leastThreshold_33 rfl (i := 3) rfl ?_
      obtain ⟨a36, f37, r38, m39, hw⟩ := hw
      refine z_invV hX hd r38 (ci := 4) rfl rfl m39 dX3_leastThreshold_34 (hC 184 _ zm184 _ _ _ _ hw) q2703 q2705 qs62 zh7 q2706 q136 zn184 rfl (Nat.le_of_ble_eq_true rfl) (st := []) rfl (zcs8 (Nat.le_of_ble_eq_true rfl)) rfl (zkI (fun v33 s34 hw => ?_)) (zout hX hR hTb)
      refine z_iload_n hX dX3_leastThreshold_37 rfl (i := 2) rfl ?_
      refine zJ_w (P := fun (j : Int32 → zS → Prop) => ∀ (p40 : Int32) (s41 : zS), j p40 s41 → zW X s41 55 [some (va_rf (some a0)), some (.int x1), some (.int p16), some (.int p20), none] [.int p40]) hw (fun p40 s41 hw => ?_) (fun j42 hj42 hw => ?_)
      · refine z_istore hX dX3_leastThreshold_55 (i := 4) (Nat.le_of_ble_eq_true rfl) rfl (ls2 := [some (va_rf (some a0)), some (.int x1), some (.int p16), some (.int p20), some (.int p40)]) rfl ?_
        refine z_aload_n hX dX3_leastThreshold_57 rfl (i := 0) rfl ?_
        refine z_iload_n hX dX3_leastThreshold_58 rfl (i := 3) rfl ?_
        obtain ⟨a46, f47, r48, m49, hw⟩ := hw
        refine z_invV hX hd r48 (ci := 4) rfl rfl m49 dX3_leastThreshold_59 (hC 179 _ zm179 _ _ _ _ hw) q2683 q2685 qs59 zh7 q2686 q136 zn179 rfl (Nat.le_of_ble_eq_true rfl) (st := []) rfl (zcs8 (Nat.le_of_ble_eq_true rfl)) rfl (zkI (fun v43 s44 hw => ?_)) (zout hX hR hTb)
        refine zJ_w (P := fun (j : zS → Prop) => ∀  (s50 : zS), j  s50 → zW X s50 73 [some (va_rf (some a0)), some (.int x1), some (.int p16), some (.int p20), none] []) hw (fun  s50 hw => ?_) (fun j51 hj51 hw => ?_)
        · obtain ⟨v52, e53⟩ : ∃ y : Int32, y = p20 + (1 : Int32) := ⟨_, rfl⟩
          refine z_iinc hX dX3_leastThreshold_73 (i := 3) (v := v52) rfl (by rw [e53]; rfl) (Nat.le_of_ble_eq_true rfl) rfl (ls2 := [some (va_rf (some a0)), some (.int x1), some (.int p16), some (.int v52), none]) rfl ?_
          have hw := hw v52 e53
          refine z_goto hX dX3_leastThreshold_76 (tgt := 22) rfl ?_
          exact hrec22 _ _ hw
        · refine z_if_eq hX dX3_leastThreshold_62 (tgt := 73) rfl (fun c54 => ?_) (fun c54 => ?_)
          · have hw := hw.1 c54
            refine z_sub (ls' := [some (va_rf (some a0)), some (.int x1), some (.int p16), some (.int p20), none]) (zsS (zsS (zsS (zsS (zsN (zs0)))))) ?_
            exact hj51  _ hw
          · have hw := hw.2 c54
            refine z_iload hX dX3_leastThreshold_65 (i := 4) rfl ?_
            refine z_iload_n hX dX3_leastThreshold_67 rfl (i := 1) rfl ?_
            refine z_icmp_lt hX dX3_leastThreshold_68 (tgt := 73) rfl (fun c55 => ?_) (fun c55 => ?_)
            · have hw := hw.1 c55
              refine z_sub (ls' := [some (va_rf (some a0)), some (.int x1), some (.int p16), some (.int p20), none]) (zsS (zsS (zsS (zsS (zsN (zs0)))))) ?_
              exact hj51  _ hw
            · have hw := hw.2 c55
              refine z_iload_n hX dX3_leastThreshold_71 rfl (i := 2) rfl ?_
              exact z_ireturn hX hR dX3_leastThreshold_72 rfl hw
      · refine z_icmp_ge hX dX3_leastThreshold_38 (tgt := 50) rfl (fun c56 => ?_) (fun c56 => ?_)
        · have hw := hw.1 c56
          refine z_aload_n hX dX3_leastThreshold_50 rfl (i := 0) rfl ?_
          refine z_iload_n hX dX3_leastThreshold_51 rfl (i := 3) rfl ?_
          obtain ⟨a60, f61, r62, m63, hw⟩ := hw
          refine z_invV hX hd r62 (ci := 4) rfl rfl m63 dX3_leastThreshold_52 (hC 181 _ zm181 _ _ _ _ hw) q2691 q2693 qs61 zh7 q2694 q136 zn181 rfl (Nat.le_of_ble_eq_true rfl) (st := []) rfl (zcs8 (Nat.le_of_ble_eq_true rfl)) rfl (zkI (fun v57 s58 hw => ?_)) (zout hX hR hTb)
          exact hj42 _ _ hw
        · have hw := hw.2 c56
          refine z_aload_n hX dX3_leastThreshold_41 rfl (i := 0) rfl ?_
          obtain ⟨a65, f66, v64, r67, m68, e69, hw⟩ := hw
          refine z_get hX zc4 (k := 8) dX3_leastThreshold_42 (Nat.le_of_ble_eq_true rfl) (zlk hX q2477) r67 m68 e69 ?_
          refine z_iload_n hX dX3_leastThreshold_45 rfl (i := 3) rfl ?_
          obtain ⟨a70, n71, f72, r73, m74, i75, hw⟩ := hw
          refine z_iald hX dX3_leastThreshold_46 r73 m74 i75 ?_
          revert hw
          generalize f72 (Int32.toNatClampNeg p20) = v76
          intro hw
          refine z_goto hX dX3_leastThreshold_47 (tgt := 55) rfl ?_
          exact hj42 _ _ hw
abbrev cX3_restOf : ByteArray := prog_28_method_49_code
def yX3_restOf : MethodName := ⟨RX3, "restOf", "(I)I"⟩
def dkwX3_restOf_0 : List UInt8 := [42, 180, 0, 9, 4, 46, 42, 180, 0, 22, 27, 46, 100, 172]
abbrev dktX3_restOf_0 : List UInt8 := dkwX3_restOf_0 ++ []
theorem dksX3_restOf_0 : cX3_restOf.data.toList.drop 0 = dktX3_restOf_0 := by decide +kernel
theorem dX3_restOf_0 : decode cX3_restOf 0 = .ok (.aload_n 0, 1) := dk_42 (dk_at dksX3_restOf_0 0 rfl rfl)
theorem dX3_restOf_1 : decode cX3_restOf 1 = .ok (.getfield 9, 3) := dk_180 0 9 (dk_at dksX3_restOf_0 1 rfl rfl)
theorem dX3_restOf_4 : decode cX3_restOf 4 = .ok (.iconst 1, 1) := dk_4 (dk_at dksX3_restOf_0 4 rfl rfl)
theorem dX3_restOf_5 : decode cX3_restOf 5 = .ok (.iaload, 1) := dk_46 (dk_at dksX3_restOf_0 5 rfl rfl)
theorem dX3_restOf_6 : decode cX3_restOf 6 = .ok (.aload_n 0, 1) := dk_42 (dk_at dksX3_restOf_0 6 rfl rfl)
theorem dX3_restOf_7 : decode cX3_restOf 7 = .ok (.getfield 22, 3) := dk_180 0 22 (dk_at dksX3_restOf_0 7 rfl rfl)
theorem dX3_restOf_10 : decode cX3_restOf 10 = .ok (.iload_n 1, 1) := dk_27 (dk_at dksX3_restOf_0 10 rfl rfl)
theorem dX3_restOf_11 : decode cX3_restOf 11 = .ok (.iaload, 1) := dk_46 (dk_at dksX3_restOf_0 11 rfl rfl)
theorem dX3_restOf_12 : decode cX3_restOf 12 = .ok (.isub, 1) := dk_100 (dk_at dksX3_restOf_0 12 rfl rfl)
theorem dX3_restOf_13 : decode cX3_restOf 13 = .ok (.ireturn, 1) := dk_172 (dk_at dksX3_restOf_0 13 rfl rfl)
/-- PackingDuelModel.restOf(I)I -/
def zb184 (G : zPg) (C : zO) (args : List Value) (Q : zQ) (Y : zY) (σ : zS) : Prop := ∃ (a0 : Nat) (x1 : Int32), args = [.ref a0, .int x1] ∧ (zgR σ (some a0) 4 0 (fun v1 => zaI σ 0 v1 (1 : Int32) (fun v13 => zgR σ (some a0) 4 7 (fun v15 => zaI σ 0 v15 x1 (fun v27 => Q (some (.int (v13 - v27))) σ)))))
set_option maxHeartbeats 4000000 in
theorem wk184 {l : Launch} {g : zG} {d : Nat} {C : zO} (hG : zGk g) (hC : zSound l g d C) {args : List Value} {Q : zQ} {Y : zY} {σ : zS} (hw : zb184 (zpg g) C args Q Y σ) : zMet l g (d + 1) (⟨"PackingDuelModel", "restOf", "(I)I"⟩, Cond.code ⟨"PackingDuelModel", "restOf", "(I)I"⟩ prog_28_method_49_code 2 (Option.some FieldType.int)) args σ Q Y := by
  obtain ⟨a0, x1, rfl, hw⟩ := hw
  refine zof hG (by decide +kernel) [false, false] ⟨rfl, rfl, trivial⟩ (Nat.le_of_ble_eq_true rfl) (ls := [some (va_rf (some a0)), some (.int x1)]) rfl ?_
  intro X hX hR hTb hd1 hd2 hl hg hnm
  subst hl
  subst hg
  have hd : zDep X d := ⟨hd1, hd2⟩
  refine z_aload_n hX dX3_restOf_0 rfl (i := 0) rfl ?_
  obtain ⟨a2, f3, v1, r4, m5, e6, hw⟩ := hw
  refine z_get hX zc4 (k := 0) dX3_restOf_1 (Nat.le_of_ble_eq_true rfl) (zlk hX q2469) r4 m5 e6 ?_
  refine z_iconst hX (v := (1 : Int32)) dX3_restOf_4 (by decide) ?_
  obtain ⟨a7, n8, f9, r10, m11, i12, hw⟩ := hw
  refine z_iald hX dX3_restOf_5 r10 m11 i12 ?_
  revert hw
  generalize f9 (Int32.toNatClampNeg (1 : Int32)) = v13
  intro hw
  refine z_aload_n hX dX3_restOf_6 rfl (i := 0) rfl ?_
  obtain ⟨a16, f17, v15, r18, m19, e20, hw⟩ := hw
  refine z_get hX zc4 (k := 7) dX3_restOf_7 (Nat.le_of_ble_eq_true rfl) (zlk hX q2476) r18 m19 e20 ?_
  refine z_iload_n hX dX3_restOf_10 rfl (i := 1) rfl ?_
  obtain ⟨a21, n22, f23, r24, m25, i26, hw⟩ := hw
  refine z_iald hX dX3_restOf_11 r24 m25 i26 ?_
  revert hw
  generalize f23 (Int32.toNatClampNeg x1) = v27
  intro hw
  refine z_isub hX dX3_restOf_12 ?_
  exact z_ireturn hX hR dX3_restOf_13 rfl hw
abbrev cX3_safestPlan : ByteArray := prog_28_method_72_code
def yX3_safestPlan : MethodName := ⟨RX3, "safestPlan", "()I"⟩
def dkwX3_safestPlan_0 : List UInt8 := [42, 3, 181, 0, 103, 42, 42, 180, 0, 9, 5, 46, 3, 182, 0, 143, 42, 182, 1, 48, 172]
abbrev dktX3_safestPlan_0 : List UInt8 := dkwX3_safestPlan_0 ++ []
theorem dksX3_safestPlan_0 : cX3_safestPlan.data.toList.drop 0 = dktX3_safestPlan_0 := by decide +kernel
theorem dX3_safestPlan_0 : decode cX3_safestPlan 0 = .ok (.aload_n 0, 1) := dk_42 (dk_at dksX3_safestPlan_0 0 rfl rfl)
theorem dX3_safestPlan_1 : decode cX3_safestPlan 1 = .ok (.iconst 0, 1) := dk_3 (dk_at dksX3_safestPlan_0 1 rfl rfl)
theorem dX3_safestPlan_2 : decode cX3_safestPlan 2 = .ok (.putfield 103, 3) := dk_181 0 103 (dk_at dksX3_safestPlan_0 2 rfl rfl)
theorem dX3_safestPlan_5 : decode cX3_safestPlan 5 = .ok (.aload_n 0, 1) := dk_42 (dk_at dksX3_safestPlan_0 5 rfl rfl)
theorem dX3_safestPlan_6 : decode cX3_safestPlan 6 = .ok (.aload_n 0, 1) := dk_42 (dk_at dksX3_safestPlan_0 6 rfl rfl)
theorem dX3_safestPlan_7 : decode cX3_safestPlan 7 = .ok (.getfield 9, 3) := dk_180 0 9 (dk_at dksX3_safestPlan_0 7 rfl rfl)
theorem dX3_safestPlan_10 : decode cX3_safestPlan 10 = .ok (.iconst 2, 1) := dk_5 (dk_at dksX3_safestPlan_0 10 rfl rfl)
theorem dX3_safestPlan_11 : decode cX3_safestPlan 11 = .ok (.iaload, 1) := dk_46 (dk_at dksX3_safestPlan_0 11 rfl rfl)
theorem dX3_safestPlan_12 : decode cX3_safestPlan 12 = .ok (.iconst 0, 1) := dk_3 (dk_at dksX3_safestPlan_0 12 rfl rfl)
theorem dX3_safestPlan_13 : decode cX3_safestPlan 13 = .ok (.invokevirtual 143, 3) := dk_182 0 143 (dk_at dksX3_safestPlan_0 13 rfl rfl)
theorem dX3_safestPlan_16 : decode cX3_safestPlan 16 = .ok (.aload_n 0, 1) := dk_42 (dk_at dksX3_safestPlan_0 16 rfl rfl)
theorem dX3_safestPlan_17 : decode cX3_safestPlan 17 = .ok (.invokevirtual 304, 3) := dk_182 1 48 (dk_at dksX3_safestPlan_0 17 rfl rfl)
theorem dX3_safestPlan_20 : decode cX3_safestPlan 20 = .ok (.ireturn, 1) := dk_172 (dk_at dksX3_safestPlan_0 20 rfl rfl)
/-- PackingDuelModel.safestPlan()I -/
def zb185 (G : zPg) (C : zO) (args : List Value) (Q : zQ) (Y : zY) (σ : zS) : Prop := ∃ (a0 : Nat), args = [.ref a0] ∧ (zput σ G.1 (some a0) 4 5 (.int (0 : Int32)) (fun s1 => zgR s1 (some a0) 4 0 (fun v9 => zaI s1 0 v9 (2 : Int32) (fun v21 => zrc s1 (some a0) 4 (fun a26 => zcl C 178 [.ref a26, .int v21, .int (0 : Int32)] Y s1 (zqV (fun s24 => zrc s24 (some a0) 4 (fun a33 => zcl C 186 [.ref a33] Y s24 (zqI (fun v30 s31 => Q (some (.int v30)) s31))))))))))
set_option maxHeartbeats 4000000 in
theorem wk185 {l : Launch} {g : zG} {d : Nat} {C : zO} (hG : zGk g) (hC : zSound l g d C) {args : List Value} {Q : zQ} {Y : zY} {σ : zS} (hw : zb185 (zpg g) C args Q Y σ) : zMet l g (d + 1) (⟨"PackingDuelModel", "safestPlan", "()I"⟩, Cond.code ⟨"PackingDuelModel", "safestPlan", "()I"⟩ prog_28_method_72_code 1 (Option.some FieldType.int)) args σ Q Y := by
  obtain ⟨a0, rfl, hw⟩ := hw
  refine zof hG (by decide +kernel) [false] ⟨rfl, trivial⟩ (Nat.le_of_ble_eq_true rfl) (ls := [some (va_rf (some a0))]) rfl ?_
  intro X hX hR hTb hd1 hd2 hl hg hnm
  subst hl
  subst hg
  have hd : zDep X d := ⟨hd1, hd2⟩
  refine z_aload_n hX dX3_safestPlan_0 rfl (i := 0) rfl ?_
  refine z_iconst hX (v := (0 : Int32)) dX3_safestPlan_1 (by decide) ?_
  obtain ⟨a3, f4, r5, g6, m7, l8, hw⟩ := hw
  refine z_put hX zc4 (k := 5) dX3_safestPlan_2 (Nat.le_of_ble_eq_true rfl) (zlk hX q2474) rfl rfl rfl r5 g6 m7 l8 (z_nm (fun s1 e2 => ?_))
  have hw := hw s1 e2
  refine z_aload_n hX dX3_safestPlan_5 rfl (i := 0) rfl ?_
  refine z_aload_n hX dX3_safestPlan_6 rfl (i := 0) rfl ?_
  obtain ⟨a10, f11, v9, r12, m13, e14, hw⟩ := hw
  refine z_get hX zc4 (k := 0) dX3_safestPlan_7 (Nat.le_of_ble_eq_true rfl) (zlk hX q2469) r12 m13 e14 ?_
  refine z_iconst hX (v := (2 : Int32)) dX3_safestPlan_10 (by decide) ?_
  obtain ⟨a15, n16, f17, r18, m19, i20, hw⟩ := hw
  refine z_iald hX dX3_safestPlan_11 r18 m19 i20 ?_
  revert hw
  generalize f17 (Int32.toNatClampNeg (2 : Int32)) = v21
  intro hw
  refine z_iconst hX (v := (0 : Int32)) dX3_safestPlan_12 (by decide) ?_
  obtain ⟨a26, f27, r28, m29, hw⟩ := hw
  refine z_invV hX hd r28 (ci := 4) rfl rfl m29 dX3_safestPlan_13 (hC 178 _ zm178 _ _ _ _ hw) q2679 q2681 qs58 zh7 q2682 q136 zn178 rfl (Nat.le_of_ble_eq_true rfl) (st := []) rfl (zcs8 (Nat.le_of_ble_eq_true rfl)) rfl (zkV (fun s24 hw => ?_)) (zout hX hR hTb)
  refine z_aload_n hX dX3_safestPlan_16 rfl (i := 0) rfl ?_
  obtain ⟨a33, f34, r35, m36, hw⟩ := hw
  refine z_invV hX hd r35 (ci := 4) rfl rfl m36 dX3_safestPlan_17 (hC 186 _ zm186 _ _ _ _ hw) q2711 q2713 qs63 zh7 q2714 q136 zn186 rfl (Nat.le_of_ble_eq_true rfl) (st := []) rfl (zcs8 (Nat.le_of_ble_eq_true rfl)) rfl (zkI (fun v30 s31 hw => ?_)) (zout hX hR hTb)
  exact z_ireturn hX hR dX3_safestPlan_20 rfl hw
abbrev cX3_firstPlan : ByteArray := prog_28_method_23_code
def yX3_firstPlan : MethodName := ⟨RX3, "firstPlan", "()I"⟩
def dkwX3_firstPlan_2 : List UInt8 := [172]
abbrev dktX3_firstPlan_2 : List UInt8 := dkwX3_firstPlan_2 ++ []
def dkwX3_firstPlan_1 : List UInt8 := [182, 0, 147, 42, 27, 182, 0, 147, 164, 0, 7, 28, 167, 0, 4, 27, 60, 132, 2, 1, 167, 255, 216, 27]
abbrev dktX3_firstPlan_1 : List UInt8 := dkwX3_firstPlan_1 ++ dktX3_firstPlan_2
def dkwX3_firstPlan_0 : List UInt8 := [3, 60, 4, 61, 28, 4, 42, 182, 0, 106, 120, 162, 0, 36, 42, 28, 182, 0, 136, 153, 0, 20, 42, 28]
abbrev dktX3_firstPlan_0 : List UInt8 := dkwX3_firstPlan_0 ++ dktX3_firstPlan_1
theorem dksX3_firstPlan_0 : cX3_firstPlan.data.toList.drop 0 = dktX3_firstPlan_0 := by decide +kernel
theorem dksX3_firstPlan_1 : cX3_firstPlan.data.toList.drop 24 = dktX3_firstPlan_1 := dk_seg dksX3_firstPlan_0 24 rfl rfl
theorem dksX3_firstPlan_2 : cX3_firstPlan.data.toList.drop 48 = dktX3_firstPlan_2 := dk_seg dksX3_firstPlan_1 24 rfl rfl
theorem dX3_firstPlan_0 : decode cX3_firstPlan 0 = .ok (.iconst 0, 1) := dk_3 (dk_at dksX3_firstPlan_0 0 rfl rfl)
theorem dX3_firstPlan_1 : decode cX3_firstPlan 1 = .ok (.istore_n 1, 1) := dk_60 (dk_at dksX3_firstPlan_0 1 rfl rfl)
theorem dX3_firstPlan_2 : decode cX3_firstPlan 2 = .ok (.iconst 1, 1) := dk_4 (dk_at dksX3_firstPlan_0 2 rfl rfl)
theorem dX3_firstPlan_3 : decode cX3_firstPlan 3 = .ok (.istore_n 2, 1) := dk_61 (dk_at dksX3_firstPlan_0 3 rfl rfl)
theorem dX3_firstPlan_4 : decode cX3_firstPlan 4 = .ok (.iload_n 2, 1) := dk_28 (dk_at dksX3_firstPlan_0 4 rfl rfl)
theorem dX3_firstPlan_5 : decode cX3_firstPlan 5 = .ok (.iconst 1, 1) := dk_4 (dk_at dksX3_firstPlan_0 5 rfl rfl)
theorem dX3_firstPlan_6 : decode cX3_firstPlan 6 = .ok (.aload_n 0, 1) := dk_42 (dk_at dksX3_firstPlan_0 6 rfl rfl)
theorem dX3_firstPlan_7 : decode cX3_firstPlan 7 = .ok (.invokevirtual 106, 3) := dk_182 0 106 (dk_at dksX3_firstPlan_0 7 rfl rfl)
theorem dX3_firstPlan_10 : decode cX3_firstPlan 10 = .ok (.ishl, 1) := dk_120 (dk_at dksX3_firstPlan_0 10 rfl rfl)
theorem dX3_firstPlan_11 : decode cX3_firstPlan 11 = .ok (.if_icmp .ge 36, 3) := dk_162 0 36 (dk_at dksX3_firstPlan_0 11 rfl rfl)
theorem dX3_firstPlan_14 : decode cX3_firstPlan 14 = .ok (.aload_n 0, 1) := dk_42 (dk_at dksX3_firstPlan_0 14 rfl rfl)
theorem dX3_firstPlan_15 : decode cX3_firstPlan 15 = .ok (.iload_n 2, 1) := dk_28 (dk_at dksX3_firstPlan_0 15 rfl rfl)
theorem dX3_firstPlan_16 : decode cX3_firstPlan 16 = .ok (.invokevirtual 136, 3) := dk_182 0 136 (dk_at dksX3_firstPlan_0 16 rfl rfl)
theorem dX3_firstPlan_19 : decode cX3_firstPlan 19 = .ok (.ifCond .eq 20, 3) := dk_153 0 20 (dk_at dksX3_firstPlan_0 19 rfl rfl)
theorem dX3_firstPlan_22 : decode cX3_firstPlan 22 = .ok (.aload_n 0, 1) := dk_42 (dk_at dksX3_firstPlan_0 22 rfl rfl)
theorem dX3_firstPlan_23 : decode cX3_firstPlan 23 = .ok (.iload_n 2, 1) := dk_28 (dk_at dksX3_firstPlan_0 23 rfl rfl)
theorem dX3_firstPlan_24 : decode cX3_firstPlan 24 = .ok (.invokevirtual 147, 3) := dk_182 0 147 (dk_at dksX3_firstPlan_1 0 rfl rfl)
theorem dX3_firstPlan_27 : decode cX3_firstPlan 27 = .ok (.aload_n 0, 1) := dk_42 (dk_at dksX3_firstPlan_1 3 rfl rfl)
theorem dX3_firstPlan_28 : decode cX3_firstPlan 28 = .ok (.iload_n 1, 1) := dk_27 (dk_at dksX3_firstPlan_1 4 rfl rfl)
theorem dX3_firstPlan_29 : decode cX3_firstPlan 29 = .ok (.invokevirtual 147, 3) := dk_182 0 147 (dk_at dksX3_firstPlan_1 5 rfl rfl)
theorem dX3_firstPlan_32 : decode cX3_firstPlan 32 = .ok (.if_icmp .le 7, 3) := dk_164 0 7 (dk_at dksX3_firstPlan_1 8 rfl rfl)
theorem dX3_firstPlan_35 : decode cX3_firstPlan 35 = .ok (.iload_n 2, 1) := dk_28 (dk_at dksX3_firstPlan_1 11 rfl rfl)
theorem dX3_firstPlan_36 : decode cX3_firstPlan 36 = .ok (.goto 4, 3) := dk_167 0 4 (dk_at dksX3_firstPlan_1 12 rfl rfl)
theorem dX3_firstPlan_39 : decode cX3_firstPlan 39 = .ok (.iload_n 1, 1) := dk_27 (dk_at dksX3_firstPlan_1 15 rfl rfl)
theorem dX3_firstPlan_40 : decode cX3_firstPlan 40 = .ok (.istore_n 1, 1) := dk_60 (dk_at dksX3_firstPlan_1 16 rfl rfl)
theorem dX3_firstPlan_41 : decode cX3_firstPlan 41 = .ok (.iinc 2 1, 3) := dk_132 2 1 (dk_at dksX3_firstPlan_1 17 rfl rfl)
theorem dX3_firstPlan_44 : decode cX3_firstPlan 44 = .ok (.goto (-40), 3) := dk_167 255 216 (dk_at dksX3_firstPlan_1 20 rfl rfl)
theorem dX3_firstPlan_47 : decode cX3_firstPlan 47 = .ok (.iload_n 1, 1) := dk_27 (dk_at dksX3_firstPlan_1 23 rfl rfl)
theorem dX3_firstPlan_48 : decode cX3_firstPlan 48 = .ok (.ireturn, 1) := dk_172 (dk_at dksX3_firstPlan_2 0 rfl rfl)
/-- PackingDuelModel.firstPlan()I -/
def zb186 (G : zPg) (C : zO) (args : List Value) (Q : zQ) (Y : zY) (σ : zS) : Prop := ∃ (a0 : Nat), args = [.ref a0] ∧ (∃ n, zIt (fun _ _ _ => False) (fun rec4 (p1 : Int32) (p2 : Int32) (s3 : zS) => zrc s3 (some a0) 4 (fun a8 => zcl C 159 [.ref a8] Y s3 (zqI (fun v5 s6 => ((((1 : Int32) <<< (v5 &&& 31)) ≤ p2) → Q (some (.int p1)) s6) ∧ ((¬ ((1 : Int32) <<< (v5 &&& 31)) ≤ p2) → zrc s6 (some a0) 4 (fun a16 => zcl C 179 [.ref a16, .int p2] Y s6 (zqI (fun v13 s14 => zJ (fun (p20 : Int32) (s21 : zS) => (∀ v23 : Int32, v23 = p2 + (1 : Int32) → rec4 p20 v23 s21)) (fun (j22 : Int32 → zS → Prop) => zJ (fun  (s25 : zS) => j22 p1 s25) (fun (j26 : zS → Prop) => ((v13 = 0) → j26 s14) ∧ ((¬ v13 = 0) → zrc s14 (some a0) 4 (fun a31 => zcl C 181 [.ref a31, .int p2] Y s14 (zqI (fun v28 s29 => zrc s29 (some a0) 4 (fun a38 => zcl C 181 [.ref a38, .int p1] Y s29 (zqI (fun v35 s36 => ((v28 ≤ v35) → j26 s36) ∧ ((¬ v28 ≤ v35) → j22 p2 s36)))))))))))))))))) n (0 : Int32) (1 : Int32) σ)
set_option maxHeartbeats 4000000 in
theorem wk186 {l : Launch} {g : zG} {d : Nat} {C : zO} (hG : zGk g) (hC : zSound l g d C) {args : List Value} {Q : zQ} {Y : zY} {σ : zS} (hw : zb186 (zpg g) C args Q Y σ) : zMet l g (d + 1) (⟨"PackingDuelModel", "firstPlan", "()I"⟩, Cond.code ⟨"PackingDuelModel", "firstPlan", "()I"⟩ prog_28_method_23_code 3 (Option.some FieldType.int)) args σ Q Y := by
  obtain ⟨a0, rfl, hw⟩ := hw
  refine zof hG (by decide +kernel) [false] ⟨rfl, trivial⟩ (Nat.le_of_ble_eq_true rfl) (ls := [some (va_rf (some a0)), none, none]) rfl ?_
  intro X hX hR hTb hd1 hd2 hl hg hnm
  subst hl
  subst hg
  have hd : zDep X d := ⟨hd1, hd2⟩
  refine z_iconst hX (v := (0 : Int32)) dX3_firstPlan_0 (by decide) ?_
  refine z_istore_n hX dX3_firstPlan_1 rfl (i := 1) (Nat.le_of_ble_eq_true rfl) (zc_rf _) (ls2 := [some (va_rf (some a0)), some (.int (0 : Int32)), none]) rfl ?_
  refine z_iconst hX (v := (1 : Int32)) dX3_firstPlan_2 (by decide) ?_
  refine z_istore_n hX dX3_firstPlan_3 rfl (i := 2) (Nat.le_of_ble_eq_true rfl) rfl (ls2 := [some (va_rf (some a0)), some (.int (0 : Int32)), some (.int (1 : Int32))]) rfl ?_
  obtain ⟨n43, hw⟩ := hw
  refine zIt_w (P := fun (j : Int32 → Int32 → zS → Prop) => ∀ (p1 : Int32) (p2 : Int32) (s3 : zS), j p1 p2 s3 → zW X s3 4 [some (va_rf (some a0)), some (.int p1), some (.int p2)] []) (fun _ _ _ h => h.elim) (fun rec4 hrec4 p1 p2 s3 hw => ?_) n43 _ _ _ hw
  refine z_iload_n hX dX3_firstPlan_4 rfl (i := 2) rfl ?_
  refine z_iconst hX (v := (1 : Int32)) dX3_firstPlan_5 (by decide) ?_
  refine z_aload_n hX dX3_firstPlan_6 rfl (i := 0) rfl ?_
  obtain ⟨a8, f9, r10, m11, hw⟩ := hw
  refine z_invV hX hd r10 (ci := 4) rfl rfl m11 dX3_firstPlan_7 (hC 159 _ zm159 _ _ _ _ hw) q2605 q2607 qs46 zh7 q2608 q136 zn159 rfl (Nat.le_of_ble_eq_true rfl) (st := [.int (1 : Int32), .int p2]) rfl (zcs8 (Nat.le_of_ble_eq_true rfl)) rfl (zkI (fun v5 s6 hw => ?_)) (zout hX hR hTb)
  refine z_ishl hX dX3_firstPlan_10 ?_
  refine z_icmp_ge hX dX3_firstPlan_11 (tgt := 47) rfl (fun c12 => ?_) (fun c12 => ?_)
  · have hw := hw.1 c12
    refine z_iload_n hX dX3_firstPlan_47 rfl (i := 1) rfl ?_
    exact z_ireturn hX hR dX3_firstPlan_48 rfl hw
  · have hw := hw.2 c12
    refine z_aload_n hX dX3_firstPlan_14 rfl (i := 0) rfl ?_
    refine z_iload_n hX dX3_firstPlan_15 rfl (i := 2) rfl ?_
    obtain ⟨a16, f17, r18, m19, hw⟩ := hw
    refine z_invV hX hd r18 (ci := 4) rfl rfl m19 dX3_firstPlan_16 (hC 179 _ zm179 _ _ _ _ hw) q2683 q2685 qs59 zh7 q2686 q136 zn179 rfl (Nat.le_of_ble_eq_true rfl) (st := []) rfl (zcs8 (Nat.le_of_ble_eq_true rfl)) rfl (zkI (fun v13 s14 hw => ?_)) (zout hX hR hTb)
    refine zJ_w (P := fun (j : Int32 → zS → Prop) => ∀ (p20 : Int32) (s21 : zS), j p20 s21 → zW X s21 40 [some (va_rf (some a0)), none, some (.int p2)] [.int p20]) hw (fun p20 s21 hw => ?_) (fun j22 hj22 hw => ?_)
    · refine z_istore_n hX dX3_firstPlan_40 rfl (i := 1) (Nat.le_of_ble_eq_true rfl) (zc_rf _) (ls2 := [some (va_rf (some a0)), some (.int p20), some (.int p2)]) rfl ?_
      obtain ⟨v23, e24⟩ : ∃ y : Int32, y = p2 + (1 : Int32) := ⟨_, rfl⟩
      refine z_iinc hX dX3_firstPlan_41 (i := 2) (v := v23) rfl (by rw [e24]; rfl) (Nat.le_of_ble_eq_true rfl) rfl (ls2 := [some (va_rf (some a0)), some (.int p20), some (.int v23)]) rfl ?_
      have hw := hw v23 e24
      refine z_goto hX dX3_firstPlan_44 (tgt := 4) rfl ?_
      exact hrec4 _ _ _ hw
    · refine zJ_w (P := fun (j : zS → Prop) => ∀  (s25 : zS), j  s25 → zW X s25 39 [some (va_rf (some a0)), some (.int p1), some (.int p2)] []) hw (fun  s25 hw => ?_) (fun j26 hj26 hw => ?_)
      · refine z_iload_n hX dX3_firstPlan_39 rfl (i := 1) rfl ?_
        refine z_sub (ls' := [some (va_rf (some a0)), none, some (.int p2)]) (zsS (zsN (zsS (zs0)))) ?_
        exact hj22 _ _ hw
      · refine z_if_eq hX dX3_firstPlan_19 (tgt := 39) rfl (fun c27 => ?_) (fun c27 => ?_)
        · have hw := hw.1 c27
          exact hj26  _ hw
        · have hw := hw.2 c27
          refine z_aload_n hX dX3_firstPlan_22 rfl (i := 0) rfl ?_
          refine z_iload_n hX dX3_firstPlan_23 rfl (i := 2) rfl ?_
          obtain ⟨a31, f32, r33, m34, hw⟩ := hw
          refine z_invV hX hd r33 (ci := 4) rfl rfl m34 dX3_firstPlan_24 (hC 181 _ zm181 _ _ _ _ hw) q2691 q2693 qs61 zh7 q2694 q136 zn181 rfl (Nat.le_of_ble_eq_true rfl) (st := []) rfl (zcs8 (Nat.le_of_ble_eq_true rfl)) rfl (zkI (fun v28 s29 hw => ?_)) (zout hX hR hTb)
          refine z_aload_n hX dX3_firstPlan_27 rfl (i := 0) rfl ?_
          refine z_iload_n hX dX3_firstPlan_28 rfl (i := 1) rfl ?_
          obtain ⟨a38, f39, r40, m41, hw⟩ := hw
          refine z_invV hX hd r40 (ci := 4) rfl rfl m41 dX3_firstPlan_29 (hC 181 _ zm181 _ _ _ _ hw) q2691 q2693 qs61 zh7 q2694 q136 zn181 rfl (Nat.le_of_ble_eq_true rfl) (st := [.int v28]) rfl (zcs8 (Nat.le_of_ble_eq_true rfl)) rfl (zkI (fun v35 s36 hw => ?_)) (zout hX hR hTb)
          refine z_icmp_le hX dX3_firstPlan_32 (tgt := 39) rfl (fun c42 => ?_) (fun c42 => ?_)
          · have hw := hw.1 c42
            exact hj26  _ hw
          · have hw := hw.2 c42
            refine z_iload_n hX dX3_firstPlan_35 rfl (i := 2) rfl ?_
            refine z_goto hX dX3_firstPlan_36 (tgt := 40) rfl ?_
            refine z_sub (ls' := [some (va_rf (some a0)), none, some (.int p2)]) (zsS (zsN (zsS (zs0)))) ?_
            exact hj22 _ _ hw
abbrev cX3_listed : ByteArray := prog_28_method_73_code
def yX3_listed : MethodName := ⟨RX3, "listed", "(ZI)I"⟩
def dkwX3_listed_1 : List UInt8 := [4, 182, 1, 33, 172]
abbrev dktX3_listed_1 : List UInt8 := dkwX3_listed_1 ++ []
def dkwX3_listed_0 : List UInt8 := [42, 3, 181, 0, 103, 42, 27, 28, 182, 1, 51, 153, 0, 12, 42, 27, 28, 182, 0, 161, 167, 0, 8, 42]
abbrev dktX3_listed_0 : List UInt8 := dkwX3_listed_0 ++ dktX3_listed_1
theorem dksX3_listed_0 : cX3_listed.data.toList.drop 0 = dktX3_listed_0 := by decide +kernel
theorem dksX3_listed_1 : cX3_listed.data.toList.drop 24 = dktX3_listed_1 := dk_seg dksX3_listed_0 24 rfl rfl
theorem dX3_listed_0 : decode cX3_listed 0 = .ok (.aload_n 0, 1) := dk_42 (dk_at dksX3_listed_0 0 rfl rfl)
theorem dX3_listed_1 : decode cX3_listed 1 = .ok (.iconst 0, 1) := dk_3 (dk_at dksX3_listed_0 1 rfl rfl)
theorem dX3_listed_2 : decode cX3_listed 2 = .ok (.putfield 103, 3) := dk_181 0 103 (dk_at dksX3_listed_0 2 rfl rfl)
theorem dX3_listed_5 : decode cX3_listed 5 = .ok (.aload_n 0, 1) := dk_42 (dk_at dksX3_listed_0 5 rfl rfl)
theorem dX3_listed_6 : decode cX3_listed 6 = .ok (.iload_n 1, 1) := dk_27 (dk_at dksX3_listed_0 6 rfl rfl)
theorem dX3_listed_7 : decode cX3_listed 7 = .ok (.iload_n 2, 1) := dk_28 (dk_at dksX3_listed_0 7 rfl rfl)
theorem dX3_listed_8 : decode cX3_listed 8 = .ok (.invokevirtual 307, 3) := dk_182 1 51 (dk_at dksX3_listed_0 8 rfl rfl)
theorem dX3_listed_11 : decode cX3_listed 11 = .ok (.ifCond .eq 12, 3) := dk_153 0 12 (dk_at dksX3_listed_0 11 rfl rfl)
theorem dX3_listed_14 : decode cX3_listed 14 = .ok (.aload_n 0, 1) := dk_42 (dk_at dksX3_listed_0 14 rfl rfl)
theorem dX3_listed_15 : decode cX3_listed 15 = .ok (.iload_n 1, 1) := dk_27 (dk_at dksX3_listed_0 15 rfl rfl)
theorem dX3_listed_16 : decode cX3_listed 16 = .ok (.iload_n 2, 1) := dk_28 (dk_at dksX3_listed_0 16 rfl rfl)
theorem dX3_listed_17 : decode cX3_listed 17 = .ok (.invokevirtual 161, 3) := dk_182 0 161 (dk_at dksX3_listed_0 17 rfl rfl)
theorem dX3_listed_20 : decode cX3_listed 20 = .ok (.goto 8, 3) := dk_167 0 8 (dk_at dksX3_listed_0 20 rfl rfl)
theorem dX3_listed_23 : decode cX3_listed 23 = .ok (.aload_n 0, 1) := dk_42 (dk_at dksX3_listed_0 23 rfl rfl)
theorem dX3_listed_24 : decode cX3_listed 24 = .ok (.iconst 1, 1) := dk_4 (dk_at dksX3_listed_1 0 rfl rfl)
theorem dX3_listed_25 : decode cX3_listed 25 = .ok (.invokevirtual 289, 3) := dk_182 1 33 (dk_at dksX3_listed_1 1 rfl rfl)
theorem dX3_listed_28 : decode cX3_listed 28 = .ok (.ireturn, 1) := dk_172 (dk_at dksX3_listed_1 4 rfl rfl)
/-- PackingDuelModel.listed(ZI)I -/
def zb187 (G : zPg) (C : zO) (args : List Value) (Q : zQ) (Y : zY) (σ : zS) : Prop := ∃ (a0 : Nat) (x1 : Int32) (x2 : Int32), args = [.ref a0, .int x1, .int x2] ∧ (zput σ G.1 (some a0) 4 5 (.int (0 : Int32)) (fun s1 => zrc s1 (some a0) 4 (fun a12 => zcl C 188 [.ref a12, .int x1, .int x2] Y s1 (zqI (fun v9 s10 => zJ (fun (p16 : Int32) (s17 : zS) => Q (some (.int p16)) s17) (fun (j18 : Int32 → zS → Prop) => ((v9 = 0) → zrc s10 (some a0) 4 (fun a23 => zcl C 163 [.ref a23, .int (1 : Int32)] Y s10 (zqI (fun v20 s21 => j18 v20 s21)))) ∧ ((¬ v9 = 0) → zrc s10 (some a0) 4 (fun a30 => zcl C 191 [.ref a30, .int x1, .int x2] Y s10 (zqI (fun v27 s28 => j18 v27 s28))))))))))
set_option maxHeartbeats 4000000 in
theorem wk187 {l : Launch} {g : zG} {d : Nat} {C : zO} (hG : zGk g) (hC : zSound l g d C) {args : List Value} {Q : zQ} {Y : zY} {σ : zS} (hw : zb187 (zpg g) C args Q Y σ) : zMet l g (d + 1) (⟨"PackingDuelModel", "listed", "(ZI)I"⟩, Cond.code ⟨"PackingDuelModel", "listed", "(ZI)I"⟩ prog_28_method_73_code 3 (Option.some FieldType.int)) args σ Q Y := by
  obtain ⟨a0, x1, x2, rfl, hw⟩ := hw
  refine zof hG (by decide +kernel) [false, false, false] ⟨rfl, rfl, rfl, trivial⟩ (Nat.le_of_ble_eq_true rfl) (ls := [some (va_rf (some a0)), some (.int x1), some (.int x2)]) rfl ?_
  intro X hX hR hTb hd1 hd2 hl hg hnm
  subst hl
  subst hg
  have hd : zDep X d := ⟨hd1, hd2⟩
  refine z_aload_n hX dX3_listed_0 rfl (i := 0) rfl ?_
  refine z_iconst hX (v := (0 : Int32)) dX3_listed_1 (by decide) ?_
  obtain ⟨a3, f4, r5, g6, m7, l8, hw⟩ := hw
  refine z_put hX zc4 (k := 5) dX3_listed_2 (Nat.le_of_ble_eq_true rfl) (zlk hX q2474) rfl rfl rfl r5 g6 m7 l8 (z_nm (fun s1 e2 => ?_))
  have hw := hw s1 e2
  refine z_aload_n hX dX3_listed_5 rfl (i := 0) rfl ?_
  refine z_iload_n hX dX3_listed_6 rfl (i := 1) rfl ?_
  refine z_iload_n hX dX3_listed_7 rfl (i := 2) rfl ?_
  obtain ⟨a12, f13, r14, m15, hw⟩ := hw
  refine z_invV hX hd r14 (ci := 4) rfl rfl m15 dX3_listed_8 (hC 188 _ zm188 _ _ _ _ hw) q2719 q2721 qs64 zh7 q2722 q136 zn188 rfl (Nat.le_of_ble_eq_true rfl) (st := []) rfl (zcs8 (Nat.le_of_ble_eq_true rfl)) rfl (zkI (fun v9 s10 hw => ?_)) (zout hX hR hTb)
  refine zJ_w (P := fun (j : Int32 → zS → Prop) => ∀ (p16 : Int32) (s17 : zS), j p16 s17 → zW X s17 28 [none, none, none] [.int p16]) hw (fun p16 s17 hw => ?_) (fun j18 hj18 hw => ?_)
  · exact z_ireturn hX hR dX3_listed_28 rfl hw
  · refine z_if_eq hX dX3_listed_11 (tgt := 23) rfl (fun c19 => ?_) (fun c19 => ?_)
    · have hw := hw.1 c19
      refine z_aload_n hX dX3_listed_23 rfl (i := 0) rfl ?_
      refine z_iconst hX (v := (1 : Int32)) dX3_listed_24 (by decide) ?_
      obtain ⟨a23, f24, r25, m26, hw⟩ := hw
      refine z_invV hX hd r25 (ci := 4) rfl rfl m26 dX3_listed_25 (hC 163 _ zm163 _ _ _ _ hw) q2620 q2622 qs49 zh7 q2623 q136 zn163 rfl (Nat.le_of_ble_eq_true rfl) (st := []) rfl (zcs8 (Nat.le_of_ble_eq_true rfl)) rfl (zkI (fun v20 s21 hw => ?_)) (zout hX hR hTb)
      refine z_sub (ls' := [none, none, none]) (zsN (zsN (zsN (zs0)))) ?_
      exact hj18 _ _ hw
    · have hw := hw.2 c19
      refine z_aload_n hX dX3_listed_14 rfl (i := 0) rfl ?_
      refine z_iload_n hX dX3_listed_15 rfl (i := 1) rfl ?_
      refine z_iload_n hX dX3_listed_16 rfl (i := 2) rfl ?_
      obtain ⟨a30, f31, r32, m33, hw⟩ := hw
      refine z_invV hX hd r32 (ci := 4) rfl rfl m33 dX3_listed_17 (hC 191 _ zm191 _ _ _ _ hw) q2730 q2732 qs66 zh7 q2733 q136 zn191 rfl (Nat.le_of_ble_eq_true rfl) (st := []) rfl (zcs8 (Nat.le_of_ble_eq_true rfl)) rfl (zkI (fun v27 s28 hw => ?_)) (zout hX hR hTb)
      refine z_goto hX dX3_listed_20 (tgt := 28) rfl ?_
      refine z_sub (ls' := [none, none, none]) (zsN (zsN (zsN (zs0)))) ?_
      exact hj18 _ _ hw
abbrev cX3_isListed : ByteArray := prog_28_method_28_code
def yX3_isListed : MethodName := ⟨RX3, "isListed", "(ZI)Z"⟩
def dkwX3_isListed_0 : List UInt8 := [28, 3, 42, 27, 182, 0, 158, 4, 100, 184, 0, 109, 172]
abbrev dktX3_isListed_0 : List UInt8 := dkwX3_isListed_0 ++ []
theorem dksX3_isListed_0 : cX3_isListed.data.toList.drop 0 = dktX3_isListed_0 := by decide +kernel
theorem dX3_isListed_0 : decode cX3_isListed 0 = .ok (.iload_n 2, 1) := dk_28 (dk_at dksX3_isListed_0 0 rfl rfl)
theorem dX3_isListed_1 : decode cX3_isListed 1 = .ok (.iconst 0, 1) := dk_3 (dk_at dksX3_isListed_0 1 rfl rfl)
theorem dX3_isListed_2 : decode cX3_isListed 2 = .ok (.aload_n 0, 1) := dk_42 (dk_at dksX3_isListed_0 2 rfl rfl)
theorem dX3_isListed_3 : decode cX3_isListed 3 = .ok (.iload_n 1, 1) := dk_27 (dk_at dksX3_isListed_0 3 rfl rfl)
theorem dX3_isListed_4 : decode cX3_isListed 4 = .ok (.invokevirtual 158, 3) := dk_182 0 158 (dk_at dksX3_isListed_0 4 rfl rfl)
theorem dX3_isListed_7 : decode cX3_isListed 7 = .ok (.iconst 1, 1) := dk_4 (dk_at dksX3_isListed_0 7 rfl rfl)
theorem dX3_isListed_8 : decode cX3_isListed 8 = .ok (.isub, 1) := dk_100 (dk_at dksX3_isListed_0 8 rfl rfl)
theorem dX3_isListed_9 : decode cX3_isListed 9 = .ok (.invokestatic 109, 3) := dk_184 0 109 (dk_at dksX3_isListed_0 9 rfl rfl)
theorem dX3_isListed_12 : decode cX3_isListed 12 = .ok (.ireturn, 1) := dk_172 (dk_at dksX3_isListed_0 12 rfl rfl)
/-- PackingDuelModel.isListed(ZI)Z -/
def zb188 (G : zPg) (C : zO) (args : List Value) (Q : zQ) (Y : zY) (σ : zS) : Prop := ∃ (a0 : Nat) (x1 : Int32) (x2 : Int32), args = [.ref a0, .int x1, .int x2] ∧ (zrc σ (some a0) 4 (fun a4 => zcl C 189 [.ref a4, .int x1] Y σ (zqI (fun v1 s2 => zcl C 166 [.int x2, .int (0 : Int32), .int (v1 - (1 : Int32))] Y s2 (zqI (fun v8 s9 => zbool v8 ∧ Q (some (.int v8)) s9))))))
set_option maxHeartbeats 4000000 in
theorem wk188 {l : Launch} {g : zG} {d : Nat} {C : zO} (hG : zGk g) (hC : zSound l g d C) {args : List Value} {Q : zQ} {Y : zY} {σ : zS} (hw : zb188 (zpg g) C args Q Y σ) : zMet l g (d + 1) (⟨"PackingDuelModel", "isListed", "(ZI)Z"⟩, Cond.code ⟨"PackingDuelModel", "isListed", "(ZI)Z"⟩ prog_28_method_28_code 3 (Option.some FieldType.boolean)) args σ Q Y := by
  obtain ⟨a0, x1, x2, rfl, hw⟩ := hw
  refine zof hG (by decide +kernel) [false, false, false] ⟨rfl, rfl, rfl, trivial⟩ (Nat.le_of_ble_eq_true rfl) (ls := [some (va_rf (some a0)), some (.int x1), some (.int x2)]) rfl ?_
  intro X hX hR hTb hd1 hd2 hl hg hnm
  subst hl
  subst hg
  have hd : zDep X d := ⟨hd1, hd2⟩
  refine z_iload_n hX dX3_isListed_0 rfl (i := 2) rfl ?_
  refine z_iconst hX (v := (0 : Int32)) dX3_isListed_1 (by decide) ?_
  refine z_aload_n hX dX3_isListed_2 rfl (i := 0) rfl ?_
  refine z_iload_n hX dX3_isListed_3 rfl (i := 1) rfl ?_
  obtain ⟨a4, f5, r6, m7, hw⟩ := hw
  refine z_invV hX hd r6 (ci := 4) rfl rfl m7 dX3_isListed_4 (hC 189 _ zm189 _ _ _ _ hw) q2723 q2725 qs65 zh7 q2726 q136 zn189 rfl (Nat.le_of_ble_eq_true rfl) (st := [.int (0 : Int32), .int x2]) rfl (zcs8 (Nat.le_of_ble_eq_true rfl)) rfl (zkI (fun v1 s2 hw => ?_)) (zout hX hR hTb)
  refine z_iconst hX (v := (1 : Int32)) dX3_isListed_7 (by decide) ?_
  refine z_isub hX dX3_isListed_8 ?_
  refine z_invS hX hd dX3_isListed_9 (hC 166 _ zm166 _ _ _ _ hw) q2632 q2633 zh7 q2634 q136 zn166 rfl (Nat.le_of_ble_eq_true rfl) (st := []) rfl (zcs8 (Nat.le_of_ble_eq_true rfl)) rfl (zkI (fun v8 s9 hw => ?_)) (zout hX hR hTb)
  exact z_ireturn hX hR dX3_isListed_12 (zn_z hw.1) hw.2
abbrev cX3_count : ByteArray := prog_28_method_25_code
def yX3_count : MethodName := ⟨RX3, "count", "(Z)I"⟩
def dkwX3_count_0 : List UInt8 := [42, 180, 0, 9, 27, 184, 0, 150, 46, 172]
abbrev dktX3_count_0 : List UInt8 := dkwX3_count_0 ++ []
theorem dksX3_count_0 : cX3_count.data.toList.drop 0 = dktX3_count_0 := by decide +kernel
theorem dX3_count_0 : decode cX3_count 0 = .ok (.aload_n 0, 1) := dk_42 (dk_at dksX3_count_0 0 rfl rfl)
theorem dX3_count_1 : decode cX3_count 1 = .ok (.getfield 9, 3) := dk_180 0 9 (dk_at dksX3_count_0 1 rfl rfl)
theorem dX3_count_4 : decode cX3_count 4 = .ok (.iload_n 1, 1) := dk_27 (dk_at dksX3_count_0 4 rfl rfl)
theorem dX3_count_5 : decode cX3_count 5 = .ok (.invokestatic 150, 3) := dk_184 0 150 (dk_at dksX3_count_0 5 rfl rfl)
theorem dX3_count_8 : decode cX3_count 8 = .ok (.iaload, 1) := dk_46 (dk_at dksX3_count_0 8 rfl rfl)
theorem dX3_count_9 : decode cX3_count 9 = .ok (.ireturn, 1) := dk_172 (dk_at dksX3_count_0 9 rfl rfl)
/-- PackingDuelModel.count(Z)I -/
def zb189 (G : zPg) (C : zO) (args : List Value) (Q : zQ) (Y : zY) (σ : zS) : Prop := ∃ (a0 : Nat) (x1 : Int32), args = [.ref a0, .int x1] ∧ (zgR σ (some a0) 4 0 (fun v1 => zcl C 190 [.int x1] Y σ (zqI (fun v7 s8 => zaI s8 0 v1 v7 (fun v16 => Q (some (.int v16)) s8)))))
set_option maxHeartbeats 4000000 in
theorem wk189 {l : Launch} {g : zG} {d : Nat} {C : zO} (hG : zGk g) (hC : zSound l g d C) {args : List Value} {Q : zQ} {Y : zY} {σ : zS} (hw : zb189 (zpg g) C args Q Y σ) : zMet l g (d + 1) (⟨"PackingDuelModel", "count", "(Z)I"⟩, Cond.code ⟨"PackingDuelModel", "count", "(Z)I"⟩ prog_28_method_25_code 2 (Option.some FieldType.int)) args σ Q Y := by
  obtain ⟨a0, x1, rfl, hw⟩ := hw
  refine zof hG (by decide +kernel) [false, false] ⟨rfl, rfl, trivial⟩ (Nat.le_of_ble_eq_true rfl) (ls := [some (va_rf (some a0)), some (.int x1)]) rfl ?_
  intro X hX hR hTb hd1 hd2 hl hg hnm
  subst hl
  subst hg
  have hd : zDep X d := ⟨hd1, hd2⟩
  refine z_aload_n hX dX3_count_0 rfl (i := 0) rfl ?_
  obtain ⟨a2, f3, v1, r4, m5, e6, hw⟩ := hw
  refine z_get hX zc4 (k := 0) dX3_count_1 (Nat.le_of_ble_eq_true rfl) (zlk hX q2469) r4 m5 e6 ?_
  refine z_iload_n hX dX3_count_4 rfl (i := 1) rfl ?_
  refine z_invS hX hd dX3_count_5 (hC 190 _ zm190 _ _ _ _ hw) q2727 q2728 zh7 q2729 q136 zn190 rfl (Nat.le_of_ble_eq_true rfl) (st := [va_rf v1]) rfl (zcs8 (Nat.le_of_ble_eq_true rfl)) rfl (zkI (fun v7 s8 hw => ?_)) (zout hX hR hTb)
  obtain ⟨a10, n11, f12, r13, m14, i15, hw⟩ := hw
  refine z_iald hX dX3_count_8 r13 m14 i15 ?_
  revert hw
  generalize f12 (Int32.toNatClampNeg v7) = v16
  intro hw
  exact z_ireturn hX hR dX3_count_9 rfl hw
abbrev cX3_countAt : ByteArray := prog_28_method_24_code
def yX3_countAt : MethodName := ⟨RX3, "countAt", "(Z)I"⟩
def dkwX3_countAt_0 : List UInt8 := [26, 153, 0, 7, 7, 167, 0, 4, 8, 172]
abbrev dktX3_countAt_0 : List UInt8 := dkwX3_countAt_0 ++ []
theorem dksX3_countAt_0 : cX3_countAt.data.toList.drop 0 = dktX3_countAt_0 := by decide +kernel
theorem dX3_countAt_0 : decode cX3_countAt 0 = .ok (.iload_n 0, 1) := dk_26 (dk_at dksX3_countAt_0 0 rfl rfl)
theorem dX3_countAt_1 : decode cX3_countAt 1 = .ok (.ifCond .eq 7, 3) := dk_153 0 7 (dk_at dksX3_countAt_0 1 rfl rfl)
theorem dX3_countAt_4 : decode cX3_countAt 4 = .ok (.iconst 4, 1) := dk_7 (dk_at dksX3_countAt_0 4 rfl rfl)
theorem dX3_countAt_5 : decode cX3_countAt 5 = .ok (.goto 4, 3) := dk_167 0 4 (dk_at dksX3_countAt_0 5 rfl rfl)
theorem dX3_countAt_8 : decode cX3_countAt 8 = .ok (.iconst 5, 1) := dk_8 (dk_at dksX3_countAt_0 8 rfl rfl)
theorem dX3_countAt_9 : decode cX3_countAt 9 = .ok (.ireturn, 1) := dk_172 (dk_at dksX3_countAt_0 9 rfl rfl)
/-- PackingDuelModel.countAt(Z)I -/
def zb190 (G : zPg) (C : zO) (args : List Value) (Q : zQ) (Y : zY) (σ : zS) : Prop := ∃ (x1 : Int32), args = [.int x1] ∧ (zJ (fun (p1 : Int32) (s2 : zS) => Q (some (.int p1)) s2) (fun (j3 : Int32 → zS → Prop) => ((x1 = 0) → j3 (5 : Int32) σ) ∧ ((¬ x1 = 0) → j3 (4 : Int32) σ)))
set_option maxHeartbeats 4000000 in
theorem wk190 {l : Launch} {g : zG} {d : Nat} {C : zO} (hG : zGk g) (hC : zSound l g d C) {args : List Value} {Q : zQ} {Y : zY} {σ : zS} (hw : zb190 (zpg g) C args Q Y σ) : zMet l g (d + 1) (⟨"PackingDuelModel", "countAt", "(Z)I"⟩, Cond.code ⟨"PackingDuelModel", "countAt", "(Z)I"⟩ prog_28_method_24_code 1 (Option.some FieldType.int)) args σ Q Y := by
  obtain ⟨x1, rfl, hw⟩ := hw
  refine zof hG (by decide +kernel) [false] ⟨rfl, trivial⟩ (Nat.le_of_ble_eq_true rfl) (ls := [some (.int x1)]) rfl ?_
  intro X hX hR hTb hd1 hd2 hl hg hnm
  subst hl
  subst hg
  have hd : zDep X d := ⟨hd1, hd2⟩
  refine z_iload_n hX dX3_countAt_0 rfl (i := 0) rfl ?_
  refine zJ_w (P := fun (j : Int32 → zS → Prop) => ∀ (p1 : Int32) (s2 : zS), j p1 s2 → zW X s2 9 [none] [.int p1]) hw (fun p1 s2 hw => ?_) (fun j3 hj3 hw => ?_)
  · exact z_ireturn hX hR dX3_countAt_9 rfl hw
  · refine z_if_eq hX dX3_countAt_1 (tgt := 8) rfl (fun c4 => ?_) (fun c4 => ?_)
    · have hw := hw.1 c4
      refine z_iconst hX (v := (5 : Int32)) dX3_countAt_8 (by decide) ?_
      refine z_sub (ls' := [none]) (zsN (zs0)) ?_
      exact hj3 _ _ hw
    · have hw := hw.2 c4
      refine z_iconst hX (v := (4 : Int32)) dX3_countAt_4 (by decide) ?_
      refine z_goto hX dX3_countAt_5 (tgt := 9) rfl ?_
      refine z_sub (ls' := [none]) (zsN (zs0)) ?_
      exact hj3 _ _ hw
abbrev cX3_listedAt : ByteArray := prog_28_method_27_code
def yX3_listedAt : MethodName := ⟨RX3, "listedAt", "(ZI)I"⟩
def dkwX3_listedAt_0 : List UInt8 := [42, 180, 0, 9, 27, 28, 184, 0, 154, 46, 172]
abbrev dktX3_listedAt_0 : List UInt8 := dkwX3_listedAt_0 ++ []
theorem dksX3_listedAt_0 : cX3_listedAt.data.toList.drop 0 = dktX3_listedAt_0 := by decide +kernel
theorem dX3_listedAt_0 : decode cX3_listedAt 0 = .ok (.aload_n 0, 1) := dk_42 (dk_at dksX3_listedAt_0 0 rfl rfl)
theorem dX3_listedAt_1 : decode cX3_listedAt 1 = .ok (.getfield 9, 3) := dk_180 0 9 (dk_at dksX3_listedAt_0 1 rfl rfl)
theorem dX3_listedAt_4 : decode cX3_listedAt 4 = .ok (.iload_n 1, 1) := dk_27 (dk_at dksX3_listedAt_0 4 rfl rfl)
theorem dX3_listedAt_5 : decode cX3_listedAt 5 = .ok (.iload_n 2, 1) := dk_28 (dk_at dksX3_listedAt_0 5 rfl rfl)
theorem dX3_listedAt_6 : decode cX3_listedAt 6 = .ok (.invokestatic 154, 3) := dk_184 0 154 (dk_at dksX3_listedAt_0 6 rfl rfl)
theorem dX3_listedAt_9 : decode cX3_listedAt 9 = .ok (.iaload, 1) := dk_46 (dk_at dksX3_listedAt_0 9 rfl rfl)
theorem dX3_listedAt_10 : decode cX3_listedAt 10 = .ok (.ireturn, 1) := dk_172 (dk_at dksX3_listedAt_0 10 rfl rfl)
/-- PackingDuelModel.listedAt(ZI)I -/
def zb191 (G : zPg) (C : zO) (args : List Value) (Q : zQ) (Y : zY) (σ : zS) : Prop := ∃ (a0 : Nat) (x1 : Int32) (x2 : Int32), args = [.ref a0, .int x1, .int x2] ∧ (zgR σ (some a0) 4 0 (fun v1 => zcl C 192 [.int x1, .int x2] Y σ (zqI (fun v7 s8 => zaI s8 0 v1 v7 (fun v16 => Q (some (.int v16)) s8)))))
set_option maxHeartbeats 4000000 in
theorem wk191 {l : Launch} {g : zG} {d : Nat} {C : zO} (hG : zGk g) (hC : zSound l g d C) {args : List Value} {Q : zQ} {Y : zY} {σ : zS} (hw : zb191 (zpg g) C args Q Y σ) : zMet l g (d + 1) (⟨"PackingDuelModel", "listedAt", "(ZI)I"⟩, Cond.code ⟨"PackingDuelModel", "listedAt", "(ZI)I"⟩ prog_28_method_27_code 3 (Option.some FieldType.int)) args σ Q Y := by
  obtain ⟨a0, x1, x2, rfl, hw⟩ := hw
  refine zof hG (by decide +kernel) [false, false, false] ⟨rfl, rfl, rfl, trivial⟩ (Nat.le_of_ble_eq_true rfl) (ls := [some (va_rf (some a0)), some (.int x1), some (.int x2)]) rfl ?_
  intro X hX hR hTb hd1 hd2 hl hg hnm
  subst hl
  subst hg
  have hd : zDep X d := ⟨hd1, hd2⟩
  refine z_aload_n hX dX3_listedAt_0 rfl (i := 0) rfl ?_
  obtain ⟨a2, f3, v1, r4, m5, e6, hw⟩ := hw
  refine z_get hX zc4 (k := 0) dX3_listedAt_1 (Nat.le_of_ble_eq_true rfl) (zlk hX q2469) r4 m5 e6 ?_
  refine z_iload_n hX dX3_listedAt_4 rfl (i := 1) rfl ?_
  refine z_iload_n hX dX3_listedAt_5 rfl (i := 2) rfl ?_
  refine z_invS hX hd dX3_listedAt_6 (hC 192 _ zm192 _ _ _ _ hw) q2734 q2735 zh7 q2736 q136 zn192 rfl (Nat.le_of_ble_eq_true rfl) (st := [va_rf v1]) rfl (zcs8 (Nat.le_of_ble_eq_true rfl)) rfl (zkI (fun v7 s8 hw => ?_)) (zout hX hR hTb)
  obtain ⟨a10, n11, f12, r13, m14, i15, hw⟩ := hw
  refine z_iald hX dX3_listedAt_9 r13 m14 i15 ?_
  revert hw
  generalize f12 (Int32.toNatClampNeg v7) = v16
  intro hw
  exact z_ireturn hX hR dX3_listedAt_10 rfl hw
abbrev cX3_listAt : ByteArray := prog_28_method_26_code
def yX3_listAt : MethodName := ⟨RX3, "listAt", "(ZI)I"⟩
def dkwX3_listAt_0 : List UInt8 := [16, 51, 26, 153, 0, 7, 3, 167, 0, 4, 8, 96, 27, 96, 172]
abbrev dktX3_listAt_0 : List UInt8 := dkwX3_listAt_0 ++ []
theorem dksX3_listAt_0 : cX3_listAt.data.toList.drop 0 = dktX3_listAt_0 := by decide +kernel
theorem dX3_listAt_0 : decode cX3_listAt 0 = .ok (.bipush 51, 2) := dk_16 51 (dk_at dksX3_listAt_0 0 rfl rfl)
theorem dX3_listAt_2 : decode cX3_listAt 2 = .ok (.iload_n 0, 1) := dk_26 (dk_at dksX3_listAt_0 2 rfl rfl)
theorem dX3_listAt_3 : decode cX3_listAt 3 = .ok (.ifCond .eq 7, 3) := dk_153 0 7 (dk_at dksX3_listAt_0 3 rfl rfl)
theorem dX3_listAt_6 : decode cX3_listAt 6 = .ok (.iconst 0, 1) := dk_3 (dk_at dksX3_listAt_0 6 rfl rfl)
theorem dX3_listAt_7 : decode cX3_listAt 7 = .ok (.goto 4, 3) := dk_167 0 4 (dk_at dksX3_listAt_0 7 rfl rfl)
theorem dX3_listAt_10 : decode cX3_listAt 10 = .ok (.iconst 5, 1) := dk_8 (dk_at dksX3_listAt_0 10 rfl rfl)
theorem dX3_listAt_11 : decode cX3_listAt 11 = .ok (.iadd, 1) := dk_96 (dk_at dksX3_listAt_0 11 rfl rfl)
theorem dX3_listAt_12 : decode cX3_listAt 12 = .ok (.iload_n 1, 1) := dk_27 (dk_at dksX3_listAt_0 12 rfl rfl)
theorem dX3_listAt_13 : decode cX3_listAt 13 = .ok (.iadd, 1) := dk_96 (dk_at dksX3_listAt_0 13 rfl rfl)
theorem dX3_listAt_14 : decode cX3_listAt 14 = .ok (.ireturn, 1) := dk_172 (dk_at dksX3_listAt_0 14 rfl rfl)
/-- PackingDuelModel.listAt(ZI)I -/
def zb192 (G : zPg) (C : zO) (args : List Value) (Q : zQ) (Y : zY) (σ : zS) : Prop := ∃ (x1 : Int32) (x2 : Int32), args = [.int x1, .int x2] ∧ (zJ (fun (p1 : Int32) (s2 : zS) => Q (some (.int (((51 : Int32) + p1) + x2))) s2) (fun (j3 : Int32 → zS → Prop) => ((x1 = 0) → j3 (5 : Int32) σ) ∧ ((¬ x1 = 0) → j3 (0 : Int32) σ)))
set_option maxHeartbeats 4000000 in
theorem wk192 {l : Launch} {g : zG} {d : Nat} {C : zO} (hG : zGk g) (hC : zSound l g d C) {args : List Value} {Q : zQ} {Y : zY} {σ : zS} (hw : zb192 (zpg g) C args Q Y σ) : zMet l g (d + 1) (⟨"PackingDuelModel", "listAt", "(ZI)I"⟩, Cond.code ⟨"PackingDuelModel", "listAt", "(ZI)I"⟩ prog_28_method_26_code 2 (Option.some FieldType.int)) args σ Q Y := by
  obtain ⟨x1, x2, rfl, hw⟩ := hw
  refine zof hG (by decide +kernel) [false, false] ⟨rfl, rfl, trivial⟩ (Nat.le_of_ble_eq_true rfl) (ls := [some (.int x1), some (.int x2)]) rfl ?_
  intro X hX hR hTb hd1 hd2 hl hg hnm
  subst hl
  subst hg
  have hd : zDep X d := ⟨hd1, hd2⟩
  refine z_bipush hX (v := (51 : Int32)) dX3_listAt_0 (by decide) ?_
  refine z_iload_n hX dX3_listAt_2 rfl (i := 0) rfl ?_
  refine zJ_w (P := fun (j : Int32 → zS → Prop) => ∀ (p1 : Int32) (s2 : zS), j p1 s2 → zW X s2 11 [none, some (.int x2)] [.int p1, .int (51 : Int32)]) hw (fun p1 s2 hw => ?_) (fun j3 hj3 hw => ?_)
  · refine z_iadd hX dX3_listAt_11 ?_
    refine z_iload_n hX dX3_listAt_12 rfl (i := 1) rfl ?_
    refine z_iadd hX dX3_listAt_13 ?_
    exact z_ireturn hX hR dX3_listAt_14 rfl hw
  · refine z_if_eq hX dX3_listAt_3 (tgt := 10) rfl (fun c4 => ?_) (fun c4 => ?_)
    · have hw := hw.1 c4
      refine z_iconst hX (v := (5 : Int32)) dX3_listAt_10 (by decide) ?_
      refine z_sub (ls' := [none, some (.int x2)]) (zsN (zsS (zs0))) ?_
      exact hj3 _ _ hw
    · have hw := hw.2 c4
      refine z_iconst hX (v := (0 : Int32)) dX3_listAt_6 (by decide) ?_
      refine z_goto hX dX3_listAt_7 (tgt := 11) rfl ?_
      refine z_sub (ls' := [none, some (.int x2)]) (zsN (zsS (zs0))) ?_
      exact hj3 _ _ hw
abbrev cX3_payoff : ByteArray := prog_28_method_74_code
def yX3_payoff : MethodName := ⟨RX3, "payoff", "(II)I"⟩
def dkwX3_payoff_1 : List UInt8 := [27, 28, 182, 0, 171, 167, 0, 8, 42, 4, 182, 1, 33, 172]
abbrev dktX3_payoff_1 : List UInt8 := dkwX3_payoff_1 ++ []
def dkwX3_payoff_0 : List UInt8 := [42, 3, 181, 0, 103, 42, 4, 27, 182, 1, 51, 153, 0, 21, 42, 3, 28, 182, 1, 51, 153, 0, 12, 42]
abbrev dktX3_payoff_0 : List UInt8 := dkwX3_payoff_0 ++ dktX3_payoff_1
theorem dksX3_payoff_0 : cX3_payoff.data.toList.drop 0 = dktX3_payoff_0 := by decide +kernel
theorem dksX3_payoff_1 : cX3_payoff.data.toList.drop 24 = dktX3_payoff_1 := dk_seg dksX3_payoff_0 24 rfl rfl
theorem dX3_payoff_0 : decode cX3_payoff 0 = .ok (.aload_n 0, 1) := dk_42 (dk_at dksX3_payoff_0 0 rfl rfl)
theorem dX3_payoff_1 : decode cX3_payoff 1 = .ok (.iconst 0, 1) := dk_3 (dk_at dksX3_payoff_0 1 rfl rfl)
theorem dX3_payoff_2 : decode cX3_payoff 2 = .ok (.putfield 103, 3) := dk_181 0 103 (dk_at dksX3_payoff_0 2 rfl rfl)
theorem dX3_payoff_5 : decode cX3_payoff 5 = .ok (.aload_n 0, 1) := dk_42 (dk_at dksX3_payoff_0 5 rfl rfl)
theorem dX3_payoff_6 : decode cX3_payoff 6 = .ok (.iconst 1, 1) := dk_4 (dk_at dksX3_payoff_0 6 rfl rfl)
theorem dX3_payoff_7 : decode cX3_payoff 7 = .ok (.iload_n 1, 1) := dk_27 (dk_at dksX3_payoff_0 7 rfl rfl)
theorem dX3_payoff_8 : decode cX3_payoff 8 = .ok (.invokevirtual 307, 3) := dk_182 1 51 (dk_at dksX3_payoff_0 8 rfl rfl)
theorem dX3_payoff_11 : decode cX3_payoff 11 = .ok (.ifCond .eq 21, 3) := dk_153 0 21 (dk_at dksX3_payoff_0 11 rfl rfl)
theorem dX3_payoff_14 : decode cX3_payoff 14 = .ok (.aload_n 0, 1) := dk_42 (dk_at dksX3_payoff_0 14 rfl rfl)
theorem dX3_payoff_15 : decode cX3_payoff 15 = .ok (.iconst 0, 1) := dk_3 (dk_at dksX3_payoff_0 15 rfl rfl)
theorem dX3_payoff_16 : decode cX3_payoff 16 = .ok (.iload_n 2, 1) := dk_28 (dk_at dksX3_payoff_0 16 rfl rfl)
theorem dX3_payoff_17 : decode cX3_payoff 17 = .ok (.invokevirtual 307, 3) := dk_182 1 51 (dk_at dksX3_payoff_0 17 rfl rfl)
theorem dX3_payoff_20 : decode cX3_payoff 20 = .ok (.ifCond .eq 12, 3) := dk_153 0 12 (dk_at dksX3_payoff_0 20 rfl rfl)
theorem dX3_payoff_23 : decode cX3_payoff 23 = .ok (.aload_n 0, 1) := dk_42 (dk_at dksX3_payoff_0 23 rfl rfl)
theorem dX3_payoff_24 : decode cX3_payoff 24 = .ok (.iload_n 1, 1) := dk_27 (dk_at dksX3_payoff_1 0 rfl rfl)
theorem dX3_payoff_25 : decode cX3_payoff 25 = .ok (.iload_n 2, 1) := dk_28 (dk_at dksX3_payoff_1 1 rfl rfl)
theorem dX3_payoff_26 : decode cX3_payoff 26 = .ok (.invokevirtual 171, 3) := dk_182 0 171 (dk_at dksX3_payoff_1 2 rfl rfl)
theorem dX3_payoff_29 : decode cX3_payoff 29 = .ok (.goto 8, 3) := dk_167 0 8 (dk_at dksX3_payoff_1 5 rfl rfl)
theorem dX3_payoff_32 : decode cX3_payoff 32 = .ok (.aload_n 0, 1) := dk_42 (dk_at dksX3_payoff_1 8 rfl rfl)
theorem dX3_payoff_33 : decode cX3_payoff 33 = .ok (.iconst 1, 1) := dk_4 (dk_at dksX3_payoff_1 9 rfl rfl)
theorem dX3_payoff_34 : decode cX3_payoff 34 = .ok (.invokevirtual 289, 3) := dk_182 1 33 (dk_at dksX3_payoff_1 10 rfl rfl)
theorem dX3_payoff_37 : decode cX3_payoff 37 = .ok (.ireturn, 1) := dk_172 (dk_at dksX3_payoff_1 13 rfl rfl)
/-- PackingDuelModel.payoff(II)I -/
def zb193 (G : zPg) (C : zO) (args : List Value) (Q : zQ) (Y : zY) (σ : zS) : Prop := ∃ (a0 : Nat) (x1 : Int32) (x2 : Int32), args = [.ref a0, .int x1, .int x2] ∧ (zput σ G.1 (some a0) 4 5 (.int (0 : Int32)) (fun s1 => zrc s1 (some a0) 4 (fun a12 => zcl C 188 [.ref a12, .int (1 : Int32), .int x1] Y s1 (zqI (fun v9 s10 => zJ (fun (p16 : Int32) (s17 : zS) => Q (some (.int p16)) s17) (fun (j18 : Int32 → zS → Prop) => zJ (fun  (s19 : zS) => zrc s19 (some a0) 4 (fun a24 => zcl C 163 [.ref a24, .int (1 : Int32)] Y s19 (zqI (fun v21 s22 => j18 v21 s22)))) (fun (j20 : zS → Prop) => ((v9 = 0) → j20 s10) ∧ ((¬ v9 = 0) → zrc s10 (some a0) 4 (fun a32 => zcl C 188 [.ref a32, .int (0 : Int32), .int x2] Y s10 (zqI (fun v29 s30 => ((v29 = 0) → j20 s30) ∧ ((¬ v29 = 0) → zrc s30 (some a0) 4 (fun a40 => zcl C 194 [.ref a40, .int x1, .int x2] Y s30 (zqI (fun v37 s38 => j18 v37 s38)))))))))))))))
set_option maxHeartbeats 4000000 in
theorem wk193 {l : Launch} {g : zG} {d : Nat} {C : zO} (hG : zGk g) (hC : zSound l g d C) {args : List Value} {Q : zQ} {Y : zY} {σ : zS} (hw : zb193 (zpg g) C args Q Y σ) : zMet l g (d + 1) (⟨"PackingDuelModel", "payoff", "(II)I"⟩, Cond.code ⟨"PackingDuelModel", "payoff", "(II)I"⟩ prog_28_method_74_code 3 (Option.some FieldType.int)) args σ Q Y := by
  obtain ⟨a0, x1, x2, rfl, hw⟩ := hw
  refine zof hG (by decide +kernel) [false, false, false] ⟨rfl, rfl, rfl, trivial⟩ (Nat.le_of_ble_eq_true rfl) (ls := [some (va_rf (some a0)), some (.int x1), some (.int x2)]) rfl ?_
  intro X hX hR hTb hd1 hd2 hl hg hnm
  subst hl
  subst hg
  have hd : zDep X d := ⟨hd1, hd2⟩
  refine z_aload_n hX dX3_payoff_0 rfl (i := 0) rfl ?_
  refine z_iconst hX (v := (0 : Int32)) dX3_payoff_1 (by decide) ?_
  obtain ⟨a3, f4, r5, g6, m7, l8, hw⟩ := hw
  refine z_put hX zc4 (k := 5) dX3_payoff_2 (Nat.le_of_ble_eq_true rfl) (zlk hX q2474) rfl rfl rfl r5 g6 m7 l8 (z_nm (fun s1 e2 => ?_))
  have hw := hw s1 e2
  refine z_aload_n hX dX3_payoff_5 rfl (i := 0) rfl ?_
  refine z_iconst hX (v := (1 : Int32)) dX3_payoff_6 (by decide) ?_
  refine z_iload_n hX dX3_payoff_7 rfl (i := 1) rfl ?_
  obtain ⟨a12, f13, r14, m15, hw⟩ := hw
  refine z_invV hX hd r14 (ci := 4) rfl rfl m15 dX3_payoff_8 (hC 188 _ zm188 _ _ _ _ hw) q2719 q2721 qs64 zh7 q2722 q136 zn188 rfl (Nat.le_of_ble_eq_true rfl) (st := []) rfl (zcs8 (Nat.le_of_ble_eq_true rfl)) rfl (zkI (fun v9 s10 hw => ?_)) (zout hX hR hTb)
  refine zJ_w (P := fun (j : Int32 → zS → Prop) => ∀ (p16 : Int32) (s17 : zS), j p16 s17 → zW X s17 37 [none, none, none] [.int p16]) hw (fun p16 s17 hw => ?_) (fun j18 hj18 hw => ?_)
  · exact z_ireturn hX hR dX3_payoff_37 rfl hw
  · refine zJ_w (P := fun (j : zS → Prop) => ∀  (s19 : zS), j  s19 → zW X s19 32 [some (va_rf (some a0)), none, none] []) hw (fun  s19 hw => ?_) (fun j20 hj20 hw => ?_)
    · refine z_aload_n hX dX3_payoff_32 rfl (i := 0) rfl ?_
      refine z_iconst hX (v := (1 : Int32)) dX3_payoff_33 (by decide) ?_
      obtain ⟨a24, f25, r26, m27, hw⟩ := hw
      refine z_invV hX hd r26 (ci := 4) rfl rfl m27 dX3_payoff_34 (hC 163 _ zm163 _ _ _ _ hw) q2620 q2622 qs49 zh7 q2623 q136 zn163 rfl (Nat.le_of_ble_eq_true rfl) (st := []) rfl (zcs8 (Nat.le_of_ble_eq_true rfl)) rfl (zkI (fun v21 s22 hw => ?_)) (zout hX hR hTb)
      refine z_sub (ls' := [none, none, none]) (zsN (zsN (zsN (zs0)))) ?_
      exact hj18 _ _ hw
    · refine z_if_eq hX dX3_payoff_11 (tgt := 32) rfl (fun c28 => ?_) (fun c28 => ?_)
      · have hw := hw.1 c28
        refine z_sub (ls' := [some (va_rf (some a0)), none, none]) (zsS (zsN (zsN (zs0)))) ?_
        exact hj20  _ hw
      · have hw := hw.2 c28
        refine z_aload_n hX dX3_payoff_14 rfl (i := 0) rfl ?_
        refine z_iconst hX (v := (0 : Int32)) dX3_payoff_15 (by decide) ?_
        refine z_iload_n hX dX3_payoff_16 rfl (i := 2) rfl ?_
        obtain ⟨a32, f33, r34, m35, hw⟩ := hw
        refine z_invV hX hd r34 (ci := 4) rfl rfl m35 dX3_payoff_17 (hC 188 _ zm188 _ _ _ _ hw) q2719 q2721 qs64 zh7 q2722 q136 zn188 rfl (Nat.le_of_ble_eq_true rfl) (st := []) rfl (zcs8 (Nat.le_of_ble_eq_true rfl)) rfl (zkI (fun v29 s30 hw => ?_)) (zout hX hR hTb)
        refine z_if_eq hX dX3_payoff_20 (tgt := 32) rfl (fun c36 => ?_) (fun c36 => ?_)
        · have hw := hw.1 c36
          refine z_sub (ls' := [some (va_rf (some a0)), none, none]) (zsS (zsN (zsN (zs0)))) ?_
          exact hj20  _ hw
        · have hw := hw.2 c36
          refine z_aload_n hX dX3_payoff_23 rfl (i := 0) rfl ?_
          refine z_iload_n hX dX3_payoff_24 rfl (i := 1) rfl ?_
          refine z_iload_n hX dX3_payoff_25 rfl (i := 2) rfl ?_
          obtain ⟨a40, f41, r42, m43, hw⟩ := hw
          refine z_invV hX hd r42 (ci := 4) rfl rfl m43 dX3_payoff_26 (hC 194 _ zm194 _ _ _ _ hw) q2741 q2743 qs67 zh7 q2744 q136 zn194 rfl (Nat.le_of_ble_eq_true rfl) (st := []) rfl (zcs8 (Nat.le_of_ble_eq_true rfl)) rfl (zkI (fun v37 s38 hw => ?_)) (zout hX hR hTb)
          refine z_goto hX dX3_payoff_29 (tgt := 37) rfl ?_
          refine z_sub (ls' := [none, none, none]) (zsN (zsN (zsN (zs0)))) ?_
          exact hj18 _ _ hw
abbrev cX3_payoffOf : ByteArray := prog_28_method_31_code
def yX3_payoffOf : MethodName := ⟨RX3, "payoffOf", "(II)I"⟩
def dkwX3_payoffOf_4 : List UInt8 := [21, 5, 42, 21, 7, 6, 182, 0, 168, 100, 54, 5, 132, 7, 1, 167, 255, 197, 21, 5, 172]
abbrev dktX3_payoffOf_4 : List UInt8 := dkwX3_payoffOf_4 ++ []
def dkwX3_payoffOf_3 : List UInt8 := [21, 7, 3, 182, 0, 168, 21, 4, 163, 0, 27, 21, 4, 42, 21, 7, 3, 182, 0, 168, 100, 54, 4]
abbrev dktX3_payoffOf_3 : List UInt8 := dkwX3_payoffOf_3 ++ dktX3_payoffOf_4
def dkwX3_payoffOf_2 : List UInt8 := [3, 54, 7, 21, 7, 42, 182, 0, 106, 162, 0, 56, 21, 6, 21, 7, 122, 4, 126, 4, 160, 0, 39, 42]
abbrev dktX3_payoffOf_2 : List UInt8 := dkwX3_payoffOf_2 ++ dktX3_payoffOf_3
def dkwX3_payoffOf_1 : List UInt8 := [42, 180, 0, 9, 5, 46, 162, 0, 6, 21, 5, 172, 42, 3, 28, 182, 0, 161, 29, 2, 130, 126, 54, 6]
abbrev dktX3_payoffOf_1 : List UInt8 := dkwX3_payoffOf_1 ++ dktX3_payoffOf_2
def dkwX3_payoffOf_0 : List UInt8 := [42, 4, 27, 182, 0, 161, 62, 42, 29, 182, 0, 125, 54, 4, 42, 29, 4, 182, 0, 117, 54, 5, 21, 4]
abbrev dktX3_payoffOf_0 : List UInt8 := dkwX3_payoffOf_0 ++ dktX3_payoffOf_1
theorem dksX3_payoffOf_0 : cX3_payoffOf.data.toList.drop 0 = dktX3_payoffOf_0 := by decide +kernel
theorem dksX3_payoffOf_1 : cX3_payoffOf.data.toList.drop 24 = dktX3_payoffOf_1 := dk_seg dksX3_payoffOf_0 24 rfl rfl
theorem dksX3_payoffOf_2 : cX3_payoffOf.data.toList.drop 48 = dktX3_payoffOf_2 := dk_seg dksX3_payoffOf_1 24 rfl rfl
theorem dksX3_payoffOf_3 : cX3_payoffOf.data.toList.drop 72 = dktX3_payoffOf_3 := dk_seg dksX3_payoffOf_2 24 rfl rfl
theorem dksX3_payoffOf_4 : cX3_payoffOf.data.toList.drop 95 = dktX3_payoffOf_4 := dk_seg dksX3_payoffOf_3 23 rfl rfl
theorem dX3_payoffOf_0 : decode cX3_payoffOf 0 = .ok (.aload_n 0, 1) := dk_42 (dk_at dksX3_payoffOf_0 0 rfl rfl)
theorem dX3_payoffOf_1 : decode cX3_payoffOf 1 = .ok (.iconst 1, 1) := dk_4 (dk_at dksX3_payoffOf_0 1 rfl rfl)
theorem dX3_payoffOf_2 : decode cX3_payoffOf 2 = .ok (.iload_n 1, 1) := dk_27 (dk_at dksX3_payoffOf_0 2 rfl rfl)
theorem dX3_payoffOf_3 : decode cX3_payoffOf 3 = .ok (.invokevirtual 161, 3) := dk_182 0 161 (dk_at dksX3_payoffOf_0 3 rfl rfl)
theorem dX3_payoffOf_6 : decode cX3_payoffOf 6 = .ok (.istore_n 3, 1) := dk_62 (dk_at dksX3_payoffOf_0 6 rfl rfl)
theorem dX3_payoffOf_7 : decode cX3_payoffOf 7 = .ok (.aload_n 0, 1) := dk_42 (dk_at dksX3_payoffOf_0 7 rfl rfl)
theorem dX3_payoffOf_8 : decode cX3_payoffOf 8 = .ok (.iload_n 3, 1) := dk_29 (dk_at dksX3_payoffOf_0 8 rfl rfl)
theorem dX3_payoffOf_9 : decode cX3_payoffOf 9 = .ok (.invokevirtual 125, 3) := dk_182 0 125 (dk_at dksX3_payoffOf_0 9 rfl rfl)
theorem dX3_payoffOf_12 : decode cX3_payoffOf 12 = .ok (.istore 4, 2) := dk_54 4 (dk_at dksX3_payoffOf_0 12 rfl rfl)
theorem dX3_payoffOf_14 : decode cX3_payoffOf 14 = .ok (.aload_n 0, 1) := dk_42 (dk_at dksX3_payoffOf_0 14 rfl rfl)
theorem dX3_payoffOf_15 : decode cX3_payoffOf 15 = .ok (.iload_n 3, 1) := dk_29 (dk_at dksX3_payoffOf_0 15 rfl rfl)
theorem dX3_payoffOf_16 : decode cX3_payoffOf 16 = .ok (.iconst 1, 1) := dk_4 (dk_at dksX3_payoffOf_0 16 rfl rfl)
theorem dX3_payoffOf_17 : decode cX3_payoffOf 17 = .ok (.invokevirtual 117, 3) := dk_182 0 117 (dk_at dksX3_payoffOf_0 17 rfl rfl)
theorem dX3_payoffOf_20 : decode cX3_payoffOf 20 = .ok (.istore 5, 2) := dk_54 5 (dk_at dksX3_payoffOf_0 20 rfl rfl)
theorem dX3_payoffOf_22 : decode cX3_payoffOf 22 = .ok (.iload 4, 2) := dk_21 4 (dk_at dksX3_payoffOf_0 22 rfl rfl)
theorem dX3_payoffOf_24 : decode cX3_payoffOf 24 = .ok (.aload_n 0, 1) := dk_42 (dk_at dksX3_payoffOf_1 0 rfl rfl)
theorem dX3_payoffOf_25 : decode cX3_payoffOf 25 = .ok (.getfield 9, 3) := dk_180 0 9 (dk_at dksX3_payoffOf_1 1 rfl rfl)
theorem dX3_payoffOf_28 : decode cX3_payoffOf 28 = .ok (.iconst 2, 1) := dk_5 (dk_at dksX3_payoffOf_1 4 rfl rfl)
theorem dX3_payoffOf_29 : decode cX3_payoffOf 29 = .ok (.iaload, 1) := dk_46 (dk_at dksX3_payoffOf_1 5 rfl rfl)
theorem dX3_payoffOf_30 : decode cX3_payoffOf 30 = .ok (.if_icmp .ge 6, 3) := dk_162 0 6 (dk_at dksX3_payoffOf_1 6 rfl rfl)
theorem dX3_payoffOf_33 : decode cX3_payoffOf 33 = .ok (.iload 5, 2) := dk_21 5 (dk_at dksX3_payoffOf_1 9 rfl rfl)
theorem dX3_payoffOf_35 : decode cX3_payoffOf 35 = .ok (.ireturn, 1) := dk_172 (dk_at dksX3_payoffOf_1 11 rfl rfl)
theorem dX3_payoffOf_36 : decode cX3_payoffOf 36 = .ok (.aload_n 0, 1) := dk_42 (dk_at dksX3_payoffOf_1 12 rfl rfl)
theorem dX3_payoffOf_37 : decode cX3_payoffOf 37 = .ok (.iconst 0, 1) := dk_3 (dk_at dksX3_payoffOf_1 13 rfl rfl)
theorem dX3_payoffOf_38 : decode cX3_payoffOf 38 = .ok (.iload_n 2, 1) := dk_28 (dk_at dksX3_payoffOf_1 14 rfl rfl)
theorem dX3_payoffOf_39 : decode cX3_payoffOf 39 = .ok (.invokevirtual 161, 3) := dk_182 0 161 (dk_at dksX3_payoffOf_1 15 rfl rfl)
theorem dX3_payoffOf_42 : decode cX3_payoffOf 42 = .ok (.iload_n 3, 1) := dk_29 (dk_at dksX3_payoffOf_1 18 rfl rfl)
theorem dX3_payoffOf_43 : decode cX3_payoffOf 43 = .ok (.iconst (-1), 1) := dk_2 (dk_at dksX3_payoffOf_1 19 rfl rfl)
theorem dX3_payoffOf_44 : decode cX3_payoffOf 44 = .ok (.ixor, 1) := dk_130 (dk_at dksX3_payoffOf_1 20 rfl rfl)
theorem dX3_payoffOf_45 : decode cX3_payoffOf 45 = .ok (.iand, 1) := dk_126 (dk_at dksX3_payoffOf_1 21 rfl rfl)
theorem dX3_payoffOf_46 : decode cX3_payoffOf 46 = .ok (.istore 6, 2) := dk_54 6 (dk_at dksX3_payoffOf_1 22 rfl rfl)
theorem dX3_payoffOf_48 : decode cX3_payoffOf 48 = .ok (.iconst 0, 1) := dk_3 (dk_at dksX3_payoffOf_2 0 rfl rfl)
theorem dX3_payoffOf_49 : decode cX3_payoffOf 49 = .ok (.istore 7, 2) := dk_54 7 (dk_at dksX3_payoffOf_2 1 rfl rfl)
theorem dX3_payoffOf_51 : decode cX3_payoffOf 51 = .ok (.iload 7, 2) := dk_21 7 (dk_at dksX3_payoffOf_2 3 rfl rfl)
theorem dX3_payoffOf_53 : decode cX3_payoffOf 53 = .ok (.aload_n 0, 1) := dk_42 (dk_at dksX3_payoffOf_2 5 rfl rfl)
theorem dX3_payoffOf_54 : decode cX3_payoffOf 54 = .ok (.invokevirtual 106, 3) := dk_182 0 106 (dk_at dksX3_payoffOf_2 6 rfl rfl)
theorem dX3_payoffOf_57 : decode cX3_payoffOf 57 = .ok (.if_icmp .ge 56, 3) := dk_162 0 56 (dk_at dksX3_payoffOf_2 9 rfl rfl)
theorem dX3_payoffOf_60 : decode cX3_payoffOf 60 = .ok (.iload 6, 2) := dk_21 6 (dk_at dksX3_payoffOf_2 12 rfl rfl)
theorem dX3_payoffOf_62 : decode cX3_payoffOf 62 = .ok (.iload 7, 2) := dk_21 7 (dk_at dksX3_payoffOf_2 14 rfl rfl)
theorem dX3_payoffOf_64 : decode cX3_payoffOf 64 = .ok (.ishr, 1) := dk_122 (dk_at dksX3_payoffOf_2 16 rfl rfl)
theorem dX3_payoffOf_65 : decode cX3_payoffOf 65 = .ok (.iconst 1, 1) := dk_4 (dk_at dksX3_payoffOf_2 17 rfl rfl)
theorem dX3_payoffOf_66 : decode cX3_payoffOf 66 = .ok (.iand, 1) := dk_126 (dk_at dksX3_payoffOf_2 18 rfl rfl)
theorem dX3_payoffOf_67 : decode cX3_payoffOf 67 = .ok (.iconst 1, 1) := dk_4 (dk_at dksX3_payoffOf_2 19 rfl rfl)
theorem dX3_payoffOf_68 : decode cX3_payoffOf 68 = .ok (.if_icmp .ne 39, 3) := dk_160 0 39 (dk_at dksX3_payoffOf_2 20 rfl rfl)
theorem dX3_payoffOf_71 : decode cX3_payoffOf 71 = .ok (.aload_n 0, 1) := dk_42 (dk_at dksX3_payoffOf_2 23 rfl rfl)
theorem dX3_payoffOf_72 : decode cX3_payoffOf 72 = .ok (.iload 7, 2) := dk_21 7 (dk_at dksX3_payoffOf_3 0 rfl rfl)
theorem dX3_payoffOf_74 : decode cX3_payoffOf 74 = .ok (.iconst 0, 1) := dk_3 (dk_at dksX3_payoffOf_3 2 rfl rfl)
theorem dX3_payoffOf_75 : decode cX3_payoffOf 75 = .ok (.invokevirtual 168, 3) := dk_182 0 168 (dk_at dksX3_payoffOf_3 3 rfl rfl)
theorem dX3_payoffOf_78 : decode cX3_payoffOf 78 = .ok (.iload 4, 2) := dk_21 4 (dk_at dksX3_payoffOf_3 6 rfl rfl)
theorem dX3_payoffOf_80 : decode cX3_payoffOf 80 = .ok (.if_icmp .gt 27, 3) := dk_163 0 27 (dk_at dksX3_payoffOf_3 8 rfl rfl)
theorem dX3_payoffOf_83 : decode cX3_payoffOf 83 = .ok (.iload 4, 2) := dk_21 4 (dk_at dksX3_payoffOf_3 11 rfl rfl)
theorem dX3_payoffOf_85 : decode cX3_payoffOf 85 = .ok (.aload_n 0, 1) := dk_42 (dk_at dksX3_payoffOf_3 13 rfl rfl)
theorem dX3_payoffOf_86 : decode cX3_payoffOf 86 = .ok (.iload 7, 2) := dk_21 7 (dk_at dksX3_payoffOf_3 14 rfl rfl)
theorem dX3_payoffOf_88 : decode cX3_payoffOf 88 = .ok (.iconst 0, 1) := dk_3 (dk_at dksX3_payoffOf_3 16 rfl rfl)
theorem dX3_payoffOf_89 : decode cX3_payoffOf 89 = .ok (.invokevirtual 168, 3) := dk_182 0 168 (dk_at dksX3_payoffOf_3 17 rfl rfl)
theorem dX3_payoffOf_92 : decode cX3_payoffOf 92 = .ok (.isub, 1) := dk_100 (dk_at dksX3_payoffOf_3 20 rfl rfl)
theorem dX3_payoffOf_93 : decode cX3_payoffOf 93 = .ok (.istore 4, 2) := dk_54 4 (dk_at dksX3_payoffOf_3 21 rfl rfl)
theorem dX3_payoffOf_95 : decode cX3_payoffOf 95 = .ok (.iload 5, 2) := dk_21 5 (dk_at dksX3_payoffOf_4 0 rfl rfl)
theorem dX3_payoffOf_97 : decode cX3_payoffOf 97 = .ok (.aload_n 0, 1) := dk_42 (dk_at dksX3_payoffOf_4 2 rfl rfl)
theorem dX3_payoffOf_98 : decode cX3_payoffOf 98 = .ok (.iload 7, 2) := dk_21 7 (dk_at dksX3_payoffOf_4 3 rfl rfl)
theorem dX3_payoffOf_100 : decode cX3_payoffOf 100 = .ok (.iconst 3, 1) := dk_6 (dk_at dksX3_payoffOf_4 5 rfl rfl)
theorem dX3_payoffOf_101 : decode cX3_payoffOf 101 = .ok (.invokevirtual 168, 3) := dk_182 0 168 (dk_at dksX3_payoffOf_4 6 rfl rfl)
theorem dX3_payoffOf_104 : decode cX3_payoffOf 104 = .ok (.isub, 1) := dk_100 (dk_at dksX3_payoffOf_4 9 rfl rfl)
theorem dX3_payoffOf_105 : decode cX3_payoffOf 105 = .ok (.istore 5, 2) := dk_54 5 (dk_at dksX3_payoffOf_4 10 rfl rfl)
theorem dX3_payoffOf_107 : decode cX3_payoffOf 107 = .ok (.iinc 7 1, 3) := dk_132 7 1 (dk_at dksX3_payoffOf_4 12 rfl rfl)
theorem dX3_payoffOf_110 : decode cX3_payoffOf 110 = .ok (.goto (-59), 3) := dk_167 255 197 (dk_at dksX3_payoffOf_4 15 rfl rfl)
theorem dX3_payoffOf_113 : decode cX3_payoffOf 113 = .ok (.iload 5, 2) := dk_21 5 (dk_at dksX3_payoffOf_4 18 rfl rfl)
theorem dX3_payoffOf_115 : decode cX3_payoffOf 115 = .ok (.ireturn, 1) := dk_172 (dk_at dksX3_payoffOf_4 20 rfl rfl)
/-- PackingDuelModel.payoffOf(II)I -/
def zb194 (G : zPg) (C : zO) (args : List Value) (Q : zQ) (Y : zY) (σ : zS) : Prop := ∃ (a0 : Nat) (x1 : Int32) (x2 : Int32), args = [.ref a0, .int x1, .int x2] ∧ (zrc σ (some a0) 4 (fun a4 => zcl C 191 [.ref a4, .int (1 : Int32), .int x1] Y σ (zqI (fun v1 s2 => zrc s2 (some a0) 4 (fun a11 => zcl C 160 [.ref a11, .int v1] Y s2 (zqI (fun v8 s9 => zrc s9 (some a0) 4 (fun a18 => zcl C 161 [.ref a18, .int v1, .int (1 : Int32)] Y s9 (zqI (fun v15 s16 => zgR s16 (some a0) 4 0 (fun v22 => zaI s16 0 v22 (2 : Int32) (fun v34 => ((v34 ≤ v8) → zrc s16 (some a0) 4 (fun a40 => zcl C 191 [.ref a40, .int (0 : Int32), .int x2] Y s16 (zqI (fun v37 s38 => ∃ n, zIt (fun _ _ _ _ => False) (fun rec48 (p44 : Int32) (p45 : Int32) (p46 : Int32) (s47 : zS) => zrc s47 (some a0) 4 (fun a52 => zcl C 159 [.ref a52] Y s47 (zqI (fun v49 s50 => ((v49 ≤ p46) → Q (some (.int p45)) s50) ∧ ((¬ v49 ≤ p46) → (∀ v57 : Int32, v57 = ((v37 &&& (v1 ^^^ (-1 : Int32))) >>> (p46 &&& 31)) → zJ (fun (p59 : Int32) (p60 : Int32) (s61 : zS) => (∀ v63 : Int32, v63 = p46 + (1 : Int32) → rec48 p59 p60 v63 s61)) (fun (j62 : Int32 → Int32 → zS → Prop) => ((¬ (v57 &&& (1 : Int32)) = (1 : Int32)) → j62 p44 p45 s50) ∧ (((v57 &&& (1 : Int32)) = (1 : Int32)) → zrc s50 (some a0) 4 (fun a69 => zcl C 167 [.ref a69, .int p46, .int (0 : Int32)] Y s50 (zqI (fun v66 s67 => ((p44 < v66) → j62 p44 p45 s67) ∧ ((¬ p44 < v66) → zrc s67 (some a0) 4 (fun a77 => zcl C 167 [.ref a77, .int p46, .int (0 : Int32)] Y s67 (zqI (fun v74 s75 => zrc s75 (some a0) 4 (fun a84 => zcl C 167 [.ref a84, .int p46, .int (3 : Int32)] Y s75 (zqI (fun v81 s82 => j62 (p44 - v74) (p45 - v81) s82)))))))))))))))))) n v8 v15 (0 : Int32) s38)))) ∧ ((¬ v34 ≤ v8) → Q (some (.int v15)) s16)))))))))))))
set_option maxHeartbeats 4000000 in
theorem wk194 {l : Launch} {g : zG} {d : Nat} {C : zO} (hG : zGk g) (hC : zSound l g d C) {args : List Value} {Q : zQ} {Y : zY} {σ : zS} (hw : zb194 (zpg g) C args Q Y σ) : zMet l g (d + 1) (⟨"PackingDuelModel", "payoffOf", "(II)I"⟩, Cond.code ⟨"PackingDuelModel", "payoffOf", "(II)I"⟩ prog_28_method_31_code 8 (Option.some FieldType.int)) args σ Q Y := by
  obtain ⟨a0, x1, x2, rfl, hw⟩ := hw
  refine zof hG (by decide +kernel) [false, false, false] ⟨rfl, rfl, rfl, trivial⟩ (Nat.le_of_ble_eq_true rfl) (ls := [some (va_rf (some a0)), some (.int x1), some (.int x2), none, none, none, none, none]) rfl ?_
  intro X hX hR hTb hd1 hd2 hl hg hnm
  subst hl
  subst hg
  have hd : zDep X d := ⟨hd1, hd2⟩
  refine z_aload_n hX dX3_payoffOf_0 rfl (i := 0) rfl ?_
  refine z_iconst hX (v := (1 : Int32)) dX3_payoffOf_1 (by decide) ?_
  refine z_iload_n hX dX3_payoffOf_2 rfl (i := 1) rfl ?_
  obtain ⟨a4, f5, r6, m7, hw⟩ := hw
  refine z_invV hX hd r6 (ci := 4) rfl rfl m7 dX3_payoffOf_3 (hC 191 _ zm191 _ _ _ _ hw) q2730 q2732 qs66 zh7 q2733 q136 zn191 rfl (Nat.le_of_ble_eq_true rfl) (st := []) rfl (zcs8 (Nat.le_of_ble_eq_true rfl)) rfl (zkI (fun v1 s2 hw => ?_)) (zout hX hR hTb)
  refine z_istore_n hX dX3_payoffOf_6 rfl (i := 3) (Nat.le_of_ble_eq_true rfl) rfl (ls2 := [some (va_rf (some a0)), some (.int x1), some (.int x2), some (.int v1), none, none, none, none]) rfl ?_
  refine z_aload_n hX dX3_payoffOf_7 rfl (i := 0) rfl ?_
  refine z_iload_n hX dX3_payoffOf_8 rfl (i := 3) rfl ?_
  obtain ⟨a11, f12, r13, m14, hw⟩ := hw
  refine z_invV hX hd r13 (ci := 4) rfl rfl m14 dX3_payoffOf_9 (hC 160 _ zm160 _ _ _ _ hw) q2609 q2611 qs47 zh7 q2612 q136 zn160 rfl (Nat.le_of_ble_eq_true rfl) (st := []) rfl (zcs8 (Nat.le_of_ble_eq_true rfl)) rfl (zkI (fun v8 s9 hw => ?_)) (zout hX hR hTb)
  refine z_istore hX dX3_payoffOf_12 (i := 4) (Nat.le_of_ble_eq_true rfl) rfl (ls2 := [some (va_rf (some a0)), some (.int x1), some (.int x2), some (.int v1), some (.int v8), none, none, none]) rfl ?_
  refine z_aload_n hX dX3_payoffOf_14 rfl (i := 0) rfl ?_
  refine z_iload_n hX dX3_payoffOf_15 rfl (i := 3) rfl ?_
  refine z_iconst hX (v := (1 : Int32)) dX3_payoffOf_16 (by decide) ?_
  obtain ⟨a18, f19, r20, m21, hw⟩ := hw
  refine z_invV hX hd r20 (ci := 4) rfl rfl m21 dX3_payoffOf_17 (hC 161 _ zm161 _ _ _ _ hw) q2613 q2615 qs48 zh7 q2616 q136 zn161 rfl (Nat.le_of_ble_eq_true rfl) (st := []) rfl (zcs8 (Nat.le_of_ble_eq_true rfl)) rfl (zkI (fun v15 s16 hw => ?_)) (zout hX hR hTb)
  refine z_istore hX dX3_payoffOf_20 (i := 5) (Nat.le_of_ble_eq_true rfl) rfl (ls2 := [some (va_rf (some a0)), some (.int x1), some (.int x2), some (.int v1), some (.int v8), some (.int v15), none, none]) rfl ?_
  refine z_iload hX dX3_payoffOf_22 (i := 4) rfl ?_
  refine z_aload_n hX dX3_payoffOf_24 rfl (i := 0) rfl ?_
  obtain ⟨a23, f24, v22, r25, m26, e27, hw⟩ := hw
  refine z_get hX zc4 (k := 0) dX3_payoffOf_25 (Nat.le_of_ble_eq_true rfl) (zlk hX q2469) r25 m26 e27 ?_
  refine z_iconst hX (v := (2 : Int32)) dX3_payoffOf_28 (by decide) ?_
  obtain ⟨a28, n29, f30, r31, m32, i33, hw⟩ := hw
  refine z_iald hX dX3_payoffOf_29 r31 m32 i33 ?_
  revert hw
  generalize f30 (Int32.toNatClampNeg (2 : Int32)) = v34
  intro hw
  refine z_icmp_ge hX dX3_payoffOf_30 (tgt := 36) rfl (fun c36 => ?_) (fun c36 => ?_)
  · have hw := hw.1 c36
    refine z_aload_n hX dX3_payoffOf_36 rfl (i := 0) rfl ?_
    refine z_iconst hX (v := (0 : Int32)) dX3_payoffOf_37 (by decide) ?_
    refine z_iload_n hX dX3_payoffOf_38 rfl (i := 2) rfl ?_
    obtain ⟨a40, f41, r42, m43, hw⟩ := hw
    refine z_invV hX hd r42 (ci := 4) rfl rfl m43 dX3_payoffOf_39 (hC 191 _ zm191 _ _ _ _ hw) q2730 q2732 qs66 zh7 q2733 q136 zn191 rfl (Nat.le_of_ble_eq_true rfl) (st := []) rfl (zcs8 (Nat.le_of_ble_eq_true rfl)) rfl (zkI (fun v37 s38 hw => ?_)) (zout hX hR hTb)
    refine z_iload_n hX dX3_payoffOf_42 rfl (i := 3) rfl ?_
    refine z_iconst hX (v := (-1 : Int32)) dX3_payoffOf_43 (by decide) ?_
    refine z_ixor hX dX3_payoffOf_44 ?_
    refine z_iand hX dX3_payoffOf_45 ?_
    refine z_istore hX dX3_payoffOf_46 (i := 6) (Nat.le_of_ble_eq_true rfl) rfl (ls2 := [some (va_rf (some a0)), some (.int x1), some (.int x2), some (.int v1), some (.int v8), some (.int v15), some (.int (v37 &&& (v1 ^^^ (-1 : Int32)))), none]) rfl ?_
    refine z_iconst hX (v := (0 : Int32)) dX3_payoffOf_48 (by decide) ?_
    refine z_istore hX dX3_payoffOf_49 (i := 7) (Nat.le_of_ble_eq_true rfl) rfl (ls2 := [some (va_rf (some a0)), some (.int x1), some (.int x2), some (.int v1), some (.int v8), some (.int v15), some (.int (v37 &&& (v1 ^^^ (-1 : Int32)))), some (.int (0 : Int32))]) rfl ?_
    obtain ⟨n88, hw⟩ := hw
    refine z_sub (ls' := [some (va_rf (some a0)), none, none, none, some (.int v8), some (.int v15), some (.int (v37 &&& (v1 ^^^ (-1 : Int32)))), some (.int (0 : Int32))]) (zsS (zsN (zsN (zsN (zsS (zsS (zsS (zsS (zs0))))))))) ?_
    refine zIt_w (P := fun (j : Int32 → Int32 → Int32 → zS → Prop) => ∀ (p44 : Int32) (p45 : Int32) (p46 : Int32) (s47 : zS), j p44 p45 p46 s47 → zW X s47 51 [some (va_rf (some a0)), none, none, none, some (.int p44), some (.int p45), some (.int (v37 &&& (v1 ^^^ (-1 : Int32)))), some (.int p46)] []) (fun _ _ _ _ h => h.elim) (fun rec48 hrec48 p44 p45 p46 s47 hw => ?_) n88 _ _ _ _ hw
    refine z_iload hX dX3_payoffOf_51 (i := 7) rfl ?_
    refine z_aload_n hX dX3_payoffOf_53 rfl (i := 0) rfl ?_
    obtain ⟨a52, f53, r54, m55, hw⟩ := hw
    refine z_invV hX hd r54 (ci := 4) rfl rfl m55 dX3_payoffOf_54 (hC 159 _ zm159 _ _ _ _ hw) q2605 q2607 qs46 zh7 q2608 q136 zn159 rfl (Nat.le_of_ble_eq_true rfl) (st := [.int p46]) rfl (zcs8 (Nat.le_of_ble_eq_true rfl)) rfl (zkI (fun v49 s50 hw => ?_)) (zout hX hR hTb)
    refine z_icmp_ge hX dX3_payoffOf_57 (tgt := 113) rfl (fun c56 => ?_) (fun c56 => ?_)
    · have hw := hw.1 c56
      refine z_iload hX dX3_payoffOf_113 (i := 5) rfl ?_
      exact z_ireturn hX hR dX3_payoffOf_115 rfl hw
    · have hw := hw.2 c56
      refine z_iload hX dX3_payoffOf_60 (i := 6) rfl ?_
      refine z_iload hX dX3_payoffOf_62 (i := 7) rfl ?_
      refine z_ishr hX dX3_payoffOf_64 ?_
      refine z_topi (fun v57 e58 => ?_)
      have hw := hw v57 e58
      refine z_iconst hX (v := (1 : Int32)) dX3_payoffOf_65 (by decide) ?_
      refine z_iand hX dX3_payoffOf_66 ?_
      refine z_iconst hX (v := (1 : Int32)) dX3_payoffOf_67 (by decide) ?_
      refine zJ_w (P := fun (j : Int32 → Int32 → zS → Prop) => ∀ (p59 : Int32) (p60 : Int32) (s61 : zS), j p59 p60 s61 → zW X s61 107 [some (va_rf (some a0)), none, none, none, some (.int p59), some (.int p60), some (.int (v37 &&& (v1 ^^^ (-1 : Int32)))), some (.int p46)] []) hw (fun p59 p60 s61 hw => ?_) (fun j62 hj62 hw => ?_)
      · obtain ⟨v63, e64⟩ : ∃ y : Int32, y = p46 + (1 : Int32) := ⟨_, rfl⟩
        refine z_iinc hX dX3_payoffOf_107 (i := 7) (v := v63) rfl (by rw [e64]; rfl) (Nat.le_of_ble_eq_true rfl) rfl (ls2 := [some (va_rf (some a0)), none, none, none, some (.int p59), some (.int p60), some (.int (v37 &&& (v1 ^^^ (-1 : Int32)))), some (.int v63)]) rfl ?_
        have hw := hw v63 e64
        refine z_goto hX dX3_payoffOf_110 (tgt := 51) rfl ?_
        exact hrec48 _ _ _ _ hw
      · refine z_icmp_ne hX dX3_payoffOf_68 (tgt := 107) rfl (fun c65 => ?_) (fun c65 => ?_)
        · have hw := hw.1 c65
          exact hj62 _ _ _ hw
        · have hw := hw.2 c65
          refine z_aload_n hX dX3_payoffOf_71 rfl (i := 0) rfl ?_
          refine z_iload hX dX3_payoffOf_72 (i := 7) rfl ?_
          refine z_iconst hX (v := (0 : Int32)) dX3_payoffOf_74 (by decide) ?_
          obtain ⟨a69, f70, r71, m72, hw⟩ := hw
          refine z_invV hX hd r71 (ci := 4) rfl rfl m72 dX3_payoffOf_75 (hC 167 _ zm167 _ _ _ _ hw) q2635 q2637 qs51 zh7 q2638 q136 zn167 rfl (Nat.le_of_ble_eq_true rfl) (st := []) rfl (zcs8 (Nat.le_of_ble_eq_true rfl)) rfl (zkI (fun v66 s67 hw => ?_)) (zout hX hR hTb)
          refine z_iload hX dX3_payoffOf_78 (i := 4) rfl ?_
          refine z_icmp_gt hX dX3_payoffOf_80 (tgt := 107) rfl (fun c73 => ?_) (fun c73 => ?_)
          · have hw := hw.1 c73
            exact hj62 _ _ _ hw
          · have hw := hw.2 c73
            refine z_iload hX dX3_payoffOf_83 (i := 4) rfl ?_
            refine z_aload_n hX dX3_payoffOf_85 rfl (i := 0) rfl ?_
            refine z_iload hX dX3_payoffOf_86 (i := 7) rfl ?_
            refine z_iconst hX (v := (0 : Int32)) dX3_payoffOf_88 (by decide) ?_
            obtain ⟨a77, f78, r79, m80, hw⟩ := hw
            refine z_invV hX hd r79 (ci := 4) rfl rfl m80 dX3_payoffOf_89 (hC 167 _ zm167 _ _ _ _ hw) q2635 q2637 qs51 zh7 q2638 q136 zn167 rfl (Nat.le_of_ble_eq_true rfl) (st := [.int p44]) rfl (zcs8 (Nat.le_of_ble_eq_true rfl)) rfl (zkI (fun v74 s75 hw => ?_)) (zout hX hR hTb)
            refine z_isub hX dX3_payoffOf_92 ?_
            refine z_istore hX dX3_payoffOf_93 (i := 4) (Nat.le_of_ble_eq_true rfl) trivial (ls2 := [some (va_rf (some a0)), none, none, none, some (.int (p44 - v74)), some (.int p45), some (.int (v37 &&& (v1 ^^^ (-1 : Int32)))), some (.int p46)]) rfl ?_
            refine z_iload hX dX3_payoffOf_95 (i := 5) rfl ?_
            refine z_aload_n hX dX3_payoffOf_97 rfl (i := 0) rfl ?_
            refine z_iload hX dX3_payoffOf_98 (i := 7) rfl ?_
            refine z_iconst hX (v := (3 : Int32)) dX3_payoffOf_100 (by decide) ?_
            obtain ⟨a84, f85, r86, m87, hw⟩ := hw
            refine z_invV hX hd r86 (ci := 4) rfl rfl m87 dX3_payoffOf_101 (hC 167 _ zm167 _ _ _ _ hw) q2635 q2637 qs51 zh7 q2638 q136 zn167 rfl (Nat.le_of_ble_eq_true rfl) (st := [.int p45]) rfl (zcs8 (Nat.le_of_ble_eq_true rfl)) rfl (zkI (fun v81 s82 hw => ?_)) (zout hX hR hTb)
            refine z_isub hX dX3_payoffOf_104 ?_
            refine z_istore hX dX3_payoffOf_105 (i := 5) (Nat.le_of_ble_eq_true rfl) rfl (ls2 := [some (va_rf (some a0)), none, none, none, some (.int (p44 - v74)), some (.int (p45 - v81)), some (.int (v37 &&& (v1 ^^^ (-1 : Int32)))), some (.int p46)]) rfl ?_
            exact hj62 _ _ _ hw
  · have hw := hw.2 c36
    refine z_iload hX dX3_payoffOf_33 (i := 5) rfl ?_
    exact z_ireturn hX hR dX3_payoffOf_35 rfl hw
abbrev cX3_kernelValue : ByteArray := prog_28_method_75_code
def yX3_kernelValue : MethodName := ⟨RX3, "kernelValue", "(Z)J"⟩
def dkwX3_kernelValue_3 : List UInt8 := [184, 1, 63, 173]
abbrev dktX3_kernelValue_3 : List UInt8 := dkwX3_kernelValue_3 ++ []
def dkwX3_kernelValue_2 : List UInt8 := [21, 4, 3, 182, 0, 194, 133, 105, 97, 65, 132, 4, 1, 167, 255, 224, 32, 42, 180, 0, 215, 27]
abbrev dktX3_kernelValue_2 : List UInt8 := dkwX3_kernelValue_2 ++ dktX3_kernelValue_3
def dkwX3_kernelValue_1 : List UInt8 := [65, 3, 54, 4, 21, 4, 42, 180, 0, 186, 162, 0, 29, 32, 42, 180, 0, 50, 21, 4, 47, 42, 4]
abbrev dktX3_kernelValue_1 : List UInt8 := dkwX3_kernelValue_1 ++ dktX3_kernelValue_2
def dkwX3_kernelValue_0 : List UInt8 := [42, 3, 181, 0, 103, 42, 182, 1, 55, 153, 0, 10, 42, 182, 1, 58, 154, 0, 7, 20, 1, 61, 173, 9]
abbrev dktX3_kernelValue_0 : List UInt8 := dkwX3_kernelValue_0 ++ dktX3_kernelValue_1
theorem dksX3_kernelValue_0 : cX3_kernelValue.data.toList.drop 0 = dktX3_kernelValue_0 := by decide +kernel
theorem dksX3_kernelValue_1 : cX3_kernelValue.data.toList.drop 24 = dktX3_kernelValue_1 := dk_seg dksX3_kernelValue_0 24 rfl rfl
theorem dksX3_kernelValue_2 : cX3_kernelValue.data.toList.drop 47 = dktX3_kernelValue_2 := dk_seg dksX3_kernelValue_1 23 rfl rfl
theorem dksX3_kernelValue_3 : cX3_kernelValue.data.toList.drop 69 = dktX3_kernelValue_3 := dk_seg dksX3_kernelValue_2 22 rfl rfl
theorem dX3_kernelValue_0 : decode cX3_kernelValue 0 = .ok (.aload_n 0, 1) := dk_42 (dk_at dksX3_kernelValue_0 0 rfl rfl)
theorem dX3_kernelValue_1 : decode cX3_kernelValue 1 = .ok (.iconst 0, 1) := dk_3 (dk_at dksX3_kernelValue_0 1 rfl rfl)
theorem dX3_kernelValue_2 : decode cX3_kernelValue 2 = .ok (.putfield 103, 3) := dk_181 0 103 (dk_at dksX3_kernelValue_0 2 rfl rfl)
theorem dX3_kernelValue_5 : decode cX3_kernelValue 5 = .ok (.aload_n 0, 1) := dk_42 (dk_at dksX3_kernelValue_0 5 rfl rfl)
theorem dX3_kernelValue_6 : decode cX3_kernelValue 6 = .ok (.invokevirtual 311, 3) := dk_182 1 55 (dk_at dksX3_kernelValue_0 6 rfl rfl)
theorem dX3_kernelValue_9 : decode cX3_kernelValue 9 = .ok (.ifCond .eq 10, 3) := dk_153 0 10 (dk_at dksX3_kernelValue_0 9 rfl rfl)
theorem dX3_kernelValue_12 : decode cX3_kernelValue 12 = .ok (.aload_n 0, 1) := dk_42 (dk_at dksX3_kernelValue_0 12 rfl rfl)
theorem dX3_kernelValue_13 : decode cX3_kernelValue 13 = .ok (.invokevirtual 314, 3) := dk_182 1 58 (dk_at dksX3_kernelValue_0 13 rfl rfl)
theorem dX3_kernelValue_16 : decode cX3_kernelValue 16 = .ok (.ifCond .ne 7, 3) := dk_154 0 7 (dk_at dksX3_kernelValue_0 16 rfl rfl)
theorem dX3_kernelValue_19 : decode cX3_kernelValue 19 = .ok (.ldc2_w 317, 3) := dk_20 1 61 (dk_at dksX3_kernelValue_0 19 rfl rfl)
theorem dX3_kernelValue_22 : decode cX3_kernelValue 22 = .ok (.lreturn, 1) := dk_173 (dk_at dksX3_kernelValue_0 22 rfl rfl)
theorem dX3_kernelValue_23 : decode cX3_kernelValue 23 = .ok (.lconst 0, 1) := dk_9 (dk_at dksX3_kernelValue_0 23 rfl rfl)
theorem dX3_kernelValue_24 : decode cX3_kernelValue 24 = .ok (.lstore_n 2, 1) := dk_65 (dk_at dksX3_kernelValue_1 0 rfl rfl)
theorem dX3_kernelValue_25 : decode cX3_kernelValue 25 = .ok (.iconst 0, 1) := dk_3 (dk_at dksX3_kernelValue_1 1 rfl rfl)
theorem dX3_kernelValue_26 : decode cX3_kernelValue 26 = .ok (.istore 4, 2) := dk_54 4 (dk_at dksX3_kernelValue_1 2 rfl rfl)
theorem dX3_kernelValue_28 : decode cX3_kernelValue 28 = .ok (.iload 4, 2) := dk_21 4 (dk_at dksX3_kernelValue_1 4 rfl rfl)
theorem dX3_kernelValue_30 : decode cX3_kernelValue 30 = .ok (.aload_n 0, 1) := dk_42 (dk_at dksX3_kernelValue_1 6 rfl rfl)
theorem dX3_kernelValue_31 : decode cX3_kernelValue 31 = .ok (.getfield 186, 3) := dk_180 0 186 (dk_at dksX3_kernelValue_1 7 rfl rfl)
theorem dX3_kernelValue_34 : decode cX3_kernelValue 34 = .ok (.if_icmp .ge 29, 3) := dk_162 0 29 (dk_at dksX3_kernelValue_1 10 rfl rfl)
theorem dX3_kernelValue_37 : decode cX3_kernelValue 37 = .ok (.lload_n 2, 1) := dk_32 (dk_at dksX3_kernelValue_1 13 rfl rfl)
theorem dX3_kernelValue_38 : decode cX3_kernelValue 38 = .ok (.aload_n 0, 1) := dk_42 (dk_at dksX3_kernelValue_1 14 rfl rfl)
theorem dX3_kernelValue_39 : decode cX3_kernelValue 39 = .ok (.getfield 50, 3) := dk_180 0 50 (dk_at dksX3_kernelValue_1 15 rfl rfl)
theorem dX3_kernelValue_42 : decode cX3_kernelValue 42 = .ok (.iload 4, 2) := dk_21 4 (dk_at dksX3_kernelValue_1 18 rfl rfl)
theorem dX3_kernelValue_44 : decode cX3_kernelValue 44 = .ok (.laload, 1) := dk_47 (dk_at dksX3_kernelValue_1 20 rfl rfl)
theorem dX3_kernelValue_45 : decode cX3_kernelValue 45 = .ok (.aload_n 0, 1) := dk_42 (dk_at dksX3_kernelValue_1 21 rfl rfl)
theorem dX3_kernelValue_46 : decode cX3_kernelValue 46 = .ok (.iconst 1, 1) := dk_4 (dk_at dksX3_kernelValue_1 22 rfl rfl)
theorem dX3_kernelValue_47 : decode cX3_kernelValue 47 = .ok (.iload 4, 2) := dk_21 4 (dk_at dksX3_kernelValue_2 0 rfl rfl)
theorem dX3_kernelValue_49 : decode cX3_kernelValue 49 = .ok (.iconst 0, 1) := dk_3 (dk_at dksX3_kernelValue_2 2 rfl rfl)
theorem dX3_kernelValue_50 : decode cX3_kernelValue 50 = .ok (.invokevirtual 194, 3) := dk_182 0 194 (dk_at dksX3_kernelValue_2 3 rfl rfl)
theorem dX3_kernelValue_53 : decode cX3_kernelValue 53 = .ok (.i2l, 1) := dk_133 (dk_at dksX3_kernelValue_2 6 rfl rfl)
theorem dX3_kernelValue_54 : decode cX3_kernelValue 54 = .ok (.lmul, 1) := dk_105 (dk_at dksX3_kernelValue_2 7 rfl rfl)
theorem dX3_kernelValue_55 : decode cX3_kernelValue 55 = .ok (.ladd, 1) := dk_97 (dk_at dksX3_kernelValue_2 8 rfl rfl)
theorem dX3_kernelValue_56 : decode cX3_kernelValue 56 = .ok (.lstore_n 2, 1) := dk_65 (dk_at dksX3_kernelValue_2 9 rfl rfl)
theorem dX3_kernelValue_57 : decode cX3_kernelValue 57 = .ok (.iinc 4 1, 3) := dk_132 4 1 (dk_at dksX3_kernelValue_2 10 rfl rfl)
theorem dX3_kernelValue_60 : decode cX3_kernelValue 60 = .ok (.goto (-32), 3) := dk_167 255 224 (dk_at dksX3_kernelValue_2 13 rfl rfl)
theorem dX3_kernelValue_63 : decode cX3_kernelValue 63 = .ok (.lload_n 2, 1) := dk_32 (dk_at dksX3_kernelValue_2 16 rfl rfl)
theorem dX3_kernelValue_64 : decode cX3_kernelValue 64 = .ok (.aload_n 0, 1) := dk_42 (dk_at dksX3_kernelValue_2 17 rfl rfl)
theorem dX3_kernelValue_65 : decode cX3_kernelValue 65 = .ok (.getfield 215, 3) := dk_180 0 215 (dk_at dksX3_kernelValue_2 18 rfl rfl)
theorem dX3_kernelValue_68 : decode cX3_kernelValue 68 = .ok (.iload_n 1, 1) := dk_27 (dk_at dksX3_kernelValue_2 21 rfl rfl)
theorem dX3_kernelValue_69 : decode cX3_kernelValue 69 = .ok (.invokestatic 319, 3) := dk_184 1 63 (dk_at dksX3_kernelValue_3 0 rfl rfl)
theorem dX3_kernelValue_72 : decode cX3_kernelValue 72 = .ok (.lreturn, 1) := dk_173 (dk_at dksX3_kernelValue_3 3 rfl rfl)
/-- PackingDuelModel.kernelValue(Z)J -/
def zb195 (G : zPg) (C : zO) (args : List Value) (Q : zQ) (Y : zY) (σ : zS) : Prop := ∃ (a0 : Nat) (x1 : Int32), args = [.ref a0, .int x1] ∧ (zput σ G.1 (some a0) 4 5 (.int (0 : Int32)) (fun s1 => zrc s1 (some a0) 4 (fun a12 => zcl C 196 [.ref a12] Y s1 (zqI (fun v9 s10 => zJ (fun  (s16 : zS) => Q (some (.long (-1000000000 : Int64))) s16) (fun (j17 : zS → Prop) => ((v9 = 0) → j17 s10) ∧ ((¬ v9 = 0) → zrc s10 (some a0) 4 (fun a22 => zcl C 197 [.ref a22] Y s10 (zqI (fun v19 s20 => ((¬ v19 = 0) → ∃ n, zIt (fun _ _ _ => False) (fun rec30 (p27 : Int64) (p28 : Int32) (s29 : zS) => zgI s29 (some a0) 4 15 (fun v31 => ((v31 ≤ p28) → zgL s29 (some a0) 4 19 (fun v38 => zcl C 210 [.long p27, .long v38, .int x1] Y s29 (zqL (fun v44 s45 => Q (some (.long v44)) s45)))) ∧ ((¬ v31 ≤ p28) → zgR s29 (some a0) 4 17 (fun v47 => zaL s29 v47 p28 (fun v59 => zrc s29 (some a0) 4 (fun a64 => zcl C 204 [.ref a64, .int (1 : Int32), .int p28, .int (0 : Int32)] Y s29 (zqI (fun v61 s62 => (∀ v68 : Int32, v68 = p28 + (1 : Int32) → rec30 (p27 + (v59 * v61.toInt64)) v68 s62))))))))) n (0 : Int64) (0 : Int32) s20) ∧ ((v19 = 0) → j17 s20)))))))))))
set_option maxHeartbeats 4000000 in
theorem wk195 {l : Launch} {g : zG} {d : Nat} {C : zO} (hG : zGk g) (hC : zSound l g d C) {args : List Value} {Q : zQ} {Y : zY} {σ : zS} (hw : zb195 (zpg g) C args Q Y σ) : zMet l g (d + 1) (⟨"PackingDuelModel", "kernelValue", "(Z)J"⟩, Cond.code ⟨"PackingDuelModel", "kernelValue", "(Z)J"⟩ prog_28_method_75_code 5 (Option.some FieldType.long)) args σ Q Y := by
  obtain ⟨a0, x1, rfl, hw⟩ := hw
  refine zof hG (by decide +kernel) [false, false] ⟨rfl, rfl, trivial⟩ (Nat.le_of_ble_eq_true rfl) (ls := [some (va_rf (some a0)), some (.int x1), none, none, none]) rfl ?_
  intro X hX hR hTb hd1 hd2 hl hg hnm
  subst hl
  subst hg
  have hd : zDep X d := ⟨hd1, hd2⟩
  refine z_aload_n hX dX3_kernelValue_0 rfl (i := 0) rfl ?_
  refine z_iconst hX (v := (0 : Int32)) dX3_kernelValue_1 (by decide) ?_
  obtain ⟨a3, f4, r5, g6, m7, l8, hw⟩ := hw
  refine z_put hX zc4 (k := 5) dX3_kernelValue_2 (Nat.le_of_ble_eq_true rfl) (zlk hX q2474) rfl rfl rfl r5 g6 m7 l8 (z_nm (fun s1 e2 => ?_))
  have hw := hw s1 e2
  refine z_aload_n hX dX3_kernelValue_5 rfl (i := 0) rfl ?_
  obtain ⟨a12, f13, r14, m15, hw⟩ := hw
  refine z_invV hX hd r14 (ci := 4) rfl rfl m15 dX3_kernelValue_6 (hC 196 _ zm196 _ _ _ _ hw) q2749 q2751 qs68 zh7 q2752 q136 zn196 rfl (Nat.le_of_ble_eq_true rfl) (st := []) rfl (zcs8 (Nat.le_of_ble_eq_true rfl)) rfl (zkI (fun v9 s10 hw => ?_)) (zout hX hR hTb)
  refine zJ_w (P := fun (j : zS → Prop) => ∀  (s16 : zS), j  s16 → zW X s16 19 [none, none, none, none, none] []) hw (fun  s16 hw => ?_) (fun j17 hj17 hw => ?_)
  · refine z_ldc2 hX dX3_kernelValue_19 q2805 ?_
    exact z_lreturn hX hR dX3_kernelValue_22 hw
  · refine z_if_eq hX dX3_kernelValue_9 (tgt := 19) rfl (fun c18 => ?_) (fun c18 => ?_)
    · have hw := hw.1 c18
      refine z_sub (ls' := [none, none, none, none, none]) (zsN (zsN (zsN (zsN (zsN (zs0)))))) ?_
      exact hj17  _ hw
    · have hw := hw.2 c18
      refine z_aload_n hX dX3_kernelValue_12 rfl (i := 0) rfl ?_
      obtain ⟨a22, f23, r24, m25, hw⟩ := hw
      refine z_invV hX hd r24 (ci := 4) rfl rfl m25 dX3_kernelValue_13 (hC 197 _ zm197 _ _ _ _ hw) q2753 q2755 qs69 zh7 q2756 q136 zn197 rfl (Nat.le_of_ble_eq_true rfl) (st := []) rfl (zcs8 (Nat.le_of_ble_eq_true rfl)) rfl (zkI (fun v19 s20 hw => ?_)) (zout hX hR hTb)
      refine z_if_ne hX dX3_kernelValue_16 (tgt := 23) rfl (fun c26 => ?_) (fun c26 => ?_)
      · have hw := hw.1 c26
        refine z_lconst hX (v := (0 : Int64)) dX3_kernelValue_23 (by decide) ?_
        refine z_lstore_n hX dX3_kernelValue_24 rfl (i := 2) (Nat.le_of_ble_eq_true rfl) rfl (ls2 := [some (va_rf (some a0)), some (.int x1), some (.long (0 : Int64)), none, none]) rfl ?_
        refine z_iconst hX (v := (0 : Int32)) dX3_kernelValue_25 (by decide) ?_
        refine z_istore hX dX3_kernelValue_26 (i := 4) (Nat.le_of_ble_eq_true rfl) trivial (ls2 := [some (va_rf (some a0)), some (.int x1), some (.long (0 : Int64)), none, some (.int (0 : Int32))]) rfl ?_
        obtain ⟨n70, hw⟩ := hw
        refine zIt_w (P := fun (j : Int64 → Int32 → zS → Prop) => ∀ (p27 : Int64) (p28 : Int32) (s29 : zS), j p27 p28 s29 → zW X s29 28 [some (va_rf (some a0)), some (.int x1), some (.long p27), none, some (.int p28)] []) (fun _ _ _ h => h.elim) (fun rec30 hrec30 p27 p28 s29 hw => ?_) n70 _ _ _ hw
        refine z_iload hX dX3_kernelValue_28 (i := 4) rfl ?_
        refine z_aload_n hX dX3_kernelValue_30 rfl (i := 0) rfl ?_
        obtain ⟨a32, f33, v31, r34, m35, e36, hw⟩ := hw
        refine z_get hX zc4 (k := 15) dX3_kernelValue_31 (Nat.le_of_ble_eq_true rfl) (zlk hX q2484) r34 m35 e36 ?_
        refine z_icmp_ge hX dX3_kernelValue_34 (tgt := 63) rfl (fun c37 => ?_) (fun c37 => ?_)
        · have hw := hw.1 c37
          refine z_lload_n hX dX3_kernelValue_63 rfl (i := 2) rfl ?_
          refine z_aload_n hX dX3_kernelValue_64 rfl (i := 0) rfl ?_
          obtain ⟨a39, f40, v38, r41, m42, e43, hw⟩ := hw
          refine z_get hX zc4 (k := 19) dX3_kernelValue_65 (Nat.le_of_ble_eq_true rfl) (zlk hX q2488) r41 m42 e43 ?_
          refine z_iload_n hX dX3_kernelValue_68 rfl (i := 1) rfl ?_
          refine z_invS hX hd dX3_kernelValue_69 (hC 210 _ zm210 _ _ _ _ hw) q2806 q2807 zh7 q2808 q136 zn210 rfl (Nat.le_of_ble_eq_true rfl) (st := []) rfl (zcs8 (Nat.le_of_ble_eq_true rfl)) rfl (zkL (fun v44 s45 hw => ?_)) (zout hX hR hTb)
          exact z_lreturn hX hR dX3_kernelValue_72 hw
        · have hw := hw.2 c37
          refine z_lload_n hX dX3_kernelValue_37 rfl (i := 2) rfl ?_
          refine z_aload_n hX dX3_kernelValue_38 rfl (i := 0) rfl ?_
          obtain ⟨a48, f49, v47, r50, m51, e52, hw⟩ := hw
          refine z_get hX zc4 (k := 17) dX3_kernelValue_39 (Nat.le_of_ble_eq_true rfl) (zlk hX q2486) r50 m51 e52 ?_
          refine z_iload hX dX3_kernelValue_42 (i := 4) rfl ?_
          obtain ⟨a53, n54, f55, r56, m57, i58, hw⟩ := hw
          refine z_lald hX dX3_kernelValue_44 r56 m57 i58 ?_
          revert hw
          generalize f55 (Int32.toNatClampNeg p28) = v59
          intro hw
          refine z_aload_n hX dX3_kernelValue_45 rfl (i := 0) rfl ?_
          refine z_iconst hX (v := (1 : Int32)) dX3_kernelValue_46 (by decide) ?_
          refine z_iload hX dX3_kernelValue_47 (i := 4) rfl ?_
          refine z_iconst hX (v := (0 : Int32)) dX3_kernelValue_49 (by decide) ?_
          obtain ⟨a64, f65, r66, m67, hw⟩ := hw
          refine z_invV hX hd r66 (ci := 4) rfl rfl m67 dX3_kernelValue_50 (hC 204 _ zm204 _ _ _ _ hw) q2781 q2783 qs74 zh7 q2784 q136 zn204 rfl (Nat.le_of_ble_eq_true rfl) (st := [.long v59, .long p27]) rfl (zcs8 (Nat.le_of_ble_eq_true rfl)) rfl (zkI (fun v61 s62 hw => ?_)) (zout hX hR hTb)
          refine z_i2l hX dX3_kernelValue_53 ?_
          refine z_lmul hX dX3_kernelValue_54 ?_
          refine z_ladd hX dX3_kernelValue_55 ?_
          refine z_lstore_n hX dX3_kernelValue_56 rfl (i := 2) (Nat.le_of_ble_eq_true rfl) rfl (ls2 := [some (va_rf (some a0)), some (.int x1), some (.long (p27 + (v59 * v61.toInt64))), none, some (.int p28)]) rfl ?_
          obtain ⟨v68, e69⟩ : ∃ y : Int32, y = p28 + (1 : Int32) := ⟨_, rfl⟩
          refine z_iinc hX dX3_kernelValue_57 (i := 4) (v := v68) rfl (by rw [e69]; rfl) (Nat.le_of_ble_eq_true rfl) trivial (ls2 := [some (va_rf (some a0)), some (.int x1), some (.long (p27 + (v59 * v61.toInt64))), none, some (.int v68)]) rfl ?_
          have hw := hw v68 e69
          refine z_goto hX dX3_kernelValue_60 (tgt := 28) rfl ?_
          exact hrec30 _ _ _ hw
      · have hw := hw.2 c26
        refine z_sub (ls' := [none, none, none, none, none]) (zsN (zsN (zsN (zsN (zsN (zs0)))))) ?_
        exact hj17  _ hw
abbrev cX3_hasKernel : ByteArray := prog_28_method_44_code
def yX3_hasKernel : MethodName := ⟨RX3, "hasKernel", "()Z"⟩
def dkwX3_hasKernel_0 : List UInt8 := [42, 4, 182, 0, 158, 158, 0, 15, 42, 3, 182, 0, 158, 158, 0, 7, 4, 167, 0, 4, 3, 172]
abbrev dktX3_hasKernel_0 : List UInt8 := dkwX3_hasKernel_0 ++ []
theorem dksX3_hasKernel_0 : cX3_hasKernel.data.toList.drop 0 = dktX3_hasKernel_0 := by decide +kernel
theorem dX3_hasKernel_0 : decode cX3_hasKernel 0 = .ok (.aload_n 0, 1) := dk_42 (dk_at dksX3_hasKernel_0 0 rfl rfl)
theorem dX3_hasKernel_1 : decode cX3_hasKernel 1 = .ok (.iconst 1, 1) := dk_4 (dk_at dksX3_hasKernel_0 1 rfl rfl)
theorem dX3_hasKernel_2 : decode cX3_hasKernel 2 = .ok (.invokevirtual 158, 3) := dk_182 0 158 (dk_at dksX3_hasKernel_0 2 rfl rfl)
theorem dX3_hasKernel_5 : decode cX3_hasKernel 5 = .ok (.ifCond .le 15, 3) := dk_158 0 15 (dk_at dksX3_hasKernel_0 5 rfl rfl)
theorem dX3_hasKernel_8 : decode cX3_hasKernel 8 = .ok (.aload_n 0, 1) := dk_42 (dk_at dksX3_hasKernel_0 8 rfl rfl)
theorem dX3_hasKernel_9 : decode cX3_hasKernel 9 = .ok (.iconst 0, 1) := dk_3 (dk_at dksX3_hasKernel_0 9 rfl rfl)
theorem dX3_hasKernel_10 : decode cX3_hasKernel 10 = .ok (.invokevirtual 158, 3) := dk_182 0 158 (dk_at dksX3_hasKernel_0 10 rfl rfl)
theorem dX3_hasKernel_13 : decode cX3_hasKernel 13 = .ok (.ifCond .le 7, 3) := dk_158 0 7 (dk_at dksX3_hasKernel_0 13 rfl rfl)
theorem dX3_hasKernel_16 : decode cX3_hasKernel 16 = .ok (.iconst 1, 1) := dk_4 (dk_at dksX3_hasKernel_0 16 rfl rfl)
theorem dX3_hasKernel_17 : decode cX3_hasKernel 17 = .ok (.goto 4, 3) := dk_167 0 4 (dk_at dksX3_hasKernel_0 17 rfl rfl)
theorem dX3_hasKernel_20 : decode cX3_hasKernel 20 = .ok (.iconst 0, 1) := dk_3 (dk_at dksX3_hasKernel_0 20 rfl rfl)
theorem dX3_hasKernel_21 : decode cX3_hasKernel 21 = .ok (.ireturn, 1) := dk_172 (dk_at dksX3_hasKernel_0 21 rfl rfl)
/-- PackingDuelModel.hasKernel()Z -/
def zb196 (G : zPg) (C : zO) (args : List Value) (Q : zQ) (Y : zY) (σ : zS) : Prop := ∃ (a0 : Nat), args = [.ref a0] ∧ (zrc σ (some a0) 4 (fun a4 => zcl C 189 [.ref a4, .int (1 : Int32)] Y σ (zqI (fun v1 s2 => zJ (fun (p8 : Int32) (s9 : zS) => zbool p8 ∧ Q (some (.int p8)) s9) (fun (j10 : Int32 → zS → Prop) => zJ (fun  (s11 : zS) => j10 (0 : Int32) s11) (fun (j12 : zS → Prop) => ((v1 ≤ 0) → j12 s2) ∧ ((¬ v1 ≤ 0) → zrc s2 (some a0) 4 (fun a17 => zcl C 189 [.ref a17, .int (0 : Int32)] Y s2 (zqI (fun v14 s15 => ((v14 ≤ 0) → j12 s15) ∧ ((¬ v14 ≤ 0) → j10 (1 : Int32) s15)))))))))))
set_option maxHeartbeats 4000000 in
theorem wk196 {l : Launch} {g : zG} {d : Nat} {C : zO} (hG : zGk g) (hC : zSound l g d C) {args : List Value} {Q : zQ} {Y : zY} {σ : zS} (hw : zb196 (zpg g) C args Q Y σ) : zMet l g (d + 1) (⟨"PackingDuelModel", "hasKernel", "()Z"⟩, Cond.code ⟨"PackingDuelModel", "hasKernel", "()Z"⟩ prog_28_method_44_code 1 (Option.some FieldType.boolean)) args σ Q Y := by
  obtain ⟨a0, rfl, hw⟩ := hw
  refine zof hG (by decide +kernel) [false] ⟨rfl, trivial⟩ (Nat.le_of_ble_eq_true rfl) (ls := [some (va_rf (some a0))]) rfl ?_
  intro X hX hR hTb hd1 hd2 hl hg hnm
  subst hl
  subst hg
  have hd : zDep X d := ⟨hd1, hd2⟩
  refine z_aload_n hX dX3_hasKernel_0 rfl (i := 0) rfl ?_
  refine z_iconst hX (v := (1 : Int32)) dX3_hasKernel_1 (by decide) ?_
  obtain ⟨a4, f5, r6, m7, hw⟩ := hw
  refine z_invV hX hd r6 (ci := 4) rfl rfl m7 dX3_hasKernel_2 (hC 189 _ zm189 _ _ _ _ hw) q2723 q2725 qs65 zh7 q2726 q136 zn189 rfl (Nat.le_of_ble_eq_true rfl) (st := []) rfl (zcs8 (Nat.le_of_ble_eq_true rfl)) rfl (zkI (fun v1 s2 hw => ?_)) (zout hX hR hTb)
  refine zJ_w (P := fun (j : Int32 → zS → Prop) => ∀ (p8 : Int32) (s9 : zS), j p8 s9 → zW X s9 21 [none] [.int p8]) hw (fun p8 s9 hw => ?_) (fun j10 hj10 hw => ?_)
  · exact z_ireturn hX hR dX3_hasKernel_21 (zn_z hw.1) hw.2
  · refine zJ_w (P := fun (j : zS → Prop) => ∀  (s11 : zS), j  s11 → zW X s11 20 [none] []) hw (fun  s11 hw => ?_) (fun j12 hj12 hw => ?_)
    · refine z_iconst hX (v := (0 : Int32)) dX3_hasKernel_20 (by decide) ?_
      exact hj10 _ _ hw
    · refine z_if_le hX dX3_hasKernel_5 (tgt := 20) rfl (fun c13 => ?_) (fun c13 => ?_)
      · have hw := hw.1 c13
        refine z_sub (ls' := [none]) (zsN (zs0)) ?_
        exact hj12  _ hw
      · have hw := hw.2 c13
        refine z_aload_n hX dX3_hasKernel_8 rfl (i := 0) rfl ?_
        refine z_iconst hX (v := (0 : Int32)) dX3_hasKernel_9 (by decide) ?_
        obtain ⟨a17, f18, r19, m20, hw⟩ := hw
        refine z_invV hX hd r19 (ci := 4) rfl rfl m20 dX3_hasKernel_10 (hC 189 _ zm189 _ _ _ _ hw) q2723 q2725 qs65 zh7 q2726 q136 zn189 rfl (Nat.le_of_ble_eq_true rfl) (st := []) rfl (zcs8 (Nat.le_of_ble_eq_true rfl)) rfl (zkI (fun v14 s15 hw => ?_)) (zout hX hR hTb)
        refine z_if_le hX dX3_hasKernel_13 (tgt := 20) rfl (fun c21 => ?_) (fun c21 => ?_)
        · have hw := hw.1 c21
          refine z_sub (ls' := [none]) (zsN (zs0)) ?_
          exact hj12  _ hw
        · have hw := hw.2 c21
          refine z_iconst hX (v := (1 : Int32)) dX3_hasKernel_16 (by decide) ?_
          refine z_goto hX dX3_hasKernel_17 (tgt := 21) rfl ?_
          refine z_sub (ls' := [none]) (zsN (zs0)) ?_
          exact hj10 _ _ hw
abbrev cX3_takeKernel : ByteArray := prog_28_method_45_code
def yX3_takeKernel : MethodName := ⟨RX3, "takeKernel", "()Z"⟩
def dkwX3_takeKernel_0 : List UInt8 := [42, 182, 0, 246, 42, 42, 180, 0, 233, 42, 180, 0, 236, 182, 0, 242, 172]
abbrev dktX3_takeKernel_0 : List UInt8 := dkwX3_takeKernel_0 ++ []
theorem dksX3_takeKernel_0 : cX3_takeKernel.data.toList.drop 0 = dktX3_takeKernel_0 := by decide +kernel
theorem dX3_takeKernel_0 : decode cX3_takeKernel 0 = .ok (.aload_n 0, 1) := dk_42 (dk_at dksX3_takeKernel_0 0 rfl rfl)
theorem dX3_takeKernel_1 : decode cX3_takeKernel 1 = .ok (.invokevirtual 246, 3) := dk_182 0 246 (dk_at dksX3_takeKernel_0 1 rfl rfl)
theorem dX3_takeKernel_4 : decode cX3_takeKernel 4 = .ok (.aload_n 0, 1) := dk_42 (dk_at dksX3_takeKernel_0 4 rfl rfl)
theorem dX3_takeKernel_5 : decode cX3_takeKernel 5 = .ok (.aload_n 0, 1) := dk_42 (dk_at dksX3_takeKernel_0 5 rfl rfl)
theorem dX3_takeKernel_6 : decode cX3_takeKernel 6 = .ok (.getfield 233, 3) := dk_180 0 233 (dk_at dksX3_takeKernel_0 6 rfl rfl)
theorem dX3_takeKernel_9 : decode cX3_takeKernel 9 = .ok (.aload_n 0, 1) := dk_42 (dk_at dksX3_takeKernel_0 9 rfl rfl)
theorem dX3_takeKernel_10 : decode cX3_takeKernel 10 = .ok (.getfield 236, 3) := dk_180 0 236 (dk_at dksX3_takeKernel_0 10 rfl rfl)
theorem dX3_takeKernel_13 : decode cX3_takeKernel 13 = .ok (.invokevirtual 242, 3) := dk_182 0 242 (dk_at dksX3_takeKernel_0 13 rfl rfl)
theorem dX3_takeKernel_16 : decode cX3_takeKernel 16 = .ok (.ireturn, 1) := dk_172 (dk_at dksX3_takeKernel_0 16 rfl rfl)
/-- PackingDuelModel.takeKernel()Z -/
def zb197 (G : zPg) (C : zO) (args : List Value) (Q : zQ) (Y : zY) (σ : zS) : Prop := ∃ (a0 : Nat), args = [.ref a0] ∧ (zrc σ (some a0) 4 (fun a4 => zcl C 198 [.ref a4] Y σ (zqV (fun s2 => zgI s2 (some a0) 4 21 (fun v8 => zgI s2 (some a0) 4 22 (fun v14 => zrc s2 (some a0) 4 (fun a23 => zcl C 200 [.ref a23, .int v8, .int v14] Y s2 (zqI (fun v20 s21 => zbool v20 ∧ Q (some (.int v20)) s21)))))))))
set_option maxHeartbeats 4000000 in
theorem wk197 {l : Launch} {g : zG} {d : Nat} {C : zO} (hG : zGk g) (hC : zSound l g d C) {args : List Value} {Q : zQ} {Y : zY} {σ : zS} (hw : zb197 (zpg g) C args Q Y σ) : zMet l g (d + 1) (⟨"PackingDuelModel", "takeKernel", "()Z"⟩, Cond.code ⟨"PackingDuelModel", "takeKernel", "()Z"⟩ prog_28_method_45_code 1 (Option.some FieldType.boolean)) args σ Q Y := by
  obtain ⟨a0, rfl, hw⟩ := hw
  refine zof hG (by decide +kernel) [false] ⟨rfl, trivial⟩ (Nat.le_of_ble_eq_true rfl) (ls := [some (va_rf (some a0))]) rfl ?_
  intro X hX hR hTb hd1 hd2 hl hg hnm
  subst hl
  subst hg
  have hd : zDep X d := ⟨hd1, hd2⟩
  refine z_aload_n hX dX3_takeKernel_0 rfl (i := 0) rfl ?_
  obtain ⟨a4, f5, r6, m7, hw⟩ := hw
  refine z_invV hX hd r6 (ci := 4) rfl rfl m7 dX3_takeKernel_1 (hC 198 _ zm198 _ _ _ _ hw) q2757 q2759 qs70 zh7 q2760 q136 zn198 rfl (Nat.le_of_ble_eq_true rfl) (st := []) rfl (zcs8 (Nat.le_of_ble_eq_true rfl)) rfl (zkV (fun s2 hw => ?_)) (zout hX hR hTb)
  refine z_aload_n hX dX3_takeKernel_4 rfl (i := 0) rfl ?_
  refine z_aload_n hX dX3_takeKernel_5 rfl (i := 0) rfl ?_
  obtain ⟨a9, f10, v8, r11, m12, e13, hw⟩ := hw
  refine z_get hX zc4 (k := 21) dX3_takeKernel_6 (Nat.le_of_ble_eq_true rfl) (zlk hX q2490) r11 m12 e13 ?_
  refine z_aload_n hX dX3_takeKernel_9 rfl (i := 0) rfl ?_
  obtain ⟨a15, f16, v14, r17, m18, e19, hw⟩ := hw
  refine z_get hX zc4 (k := 22) dX3_takeKernel_10 (Nat.le_of_ble_eq_true rfl) (zlk hX q2491) r17 m18 e19 ?_
  obtain ⟨a23, f24, r25, m26, hw⟩ := hw
  refine z_invV hX hd r25 (ci := 4) rfl rfl m26 dX3_takeKernel_13 (hC 200 _ zm200 _ _ _ _ hw) q2766 q2768 qs72 zh7 q2769 q136 zn200 rfl (Nat.le_of_ble_eq_true rfl) (st := []) rfl (zcs8 (Nat.le_of_ble_eq_true rfl)) rfl (zkI (fun v20 s21 hw => ?_)) (zout hX hR hTb)
  exact z_ireturn hX hR dX3_takeKernel_16 (zn_z hw.1) hw.2
abbrev cX3_findKernel : ByteArray := prog_28_method_43_code
def yX3_findKernel : MethodName := ⟨RX3, "findKernel", "()V"⟩
def dkwX3_findKernel_6 : List UInt8 := [167, 255, 137, 177]
abbrev dktX3_findKernel_6 : List UInt8 := dkwX3_findKernel_6 ++ []
def dkwX3_findKernel_5 : List UInt8 := [180, 0, 239, 4, 96, 181, 0, 239, 132, 3, 1, 167, 255, 169, 132, 2, 1, 167, 255, 150, 132, 1, 1]
abbrev dktX3_findKernel_5 : List UInt8 := dkwX3_findKernel_5 ++ dktX3_findKernel_6
def dkwX3_findKernel_4 : List UInt8 := [181, 0, 233, 42, 42, 180, 0, 239, 154, 0, 7, 29, 167, 0, 7, 42, 180, 0, 236, 181, 0, 236, 42, 89]
abbrev dktX3_findKernel_4 : List UInt8 := dkwX3_findKernel_4 ++ dktX3_findKernel_5
def dkwX3_findKernel_3 : List UInt8 := [28, 29, 182, 0, 242, 153, 0, 51, 42, 42, 180, 0, 239, 154, 0, 7, 28, 167, 0, 7, 42, 180, 0, 233]
abbrev dktX3_findKernel_3 : List UInt8 := dkwX3_findKernel_3 ++ dktX3_findKernel_4
def dkwX3_findKernel_2 : List UInt8 := [182, 0, 158, 120, 162, 0, 82, 28, 184, 0, 202, 27, 160, 0, 68, 29, 184, 0, 202, 27, 160, 0, 60, 42]
abbrev dktX3_findKernel_2 : List UInt8 := dkwX3_findKernel_2 ++ dktX3_findKernel_3
def dkwX3_findKernel_1 : List UInt8 := [163, 0, 120, 4, 61, 28, 4, 42, 4, 182, 0, 158, 120, 162, 0, 101, 4, 62, 29, 4, 42, 3]
abbrev dktX3_findKernel_1 : List UInt8 := dkwX3_findKernel_1 ++ dktX3_findKernel_2
def dkwX3_findKernel_0 : List UInt8 := [42, 182, 0, 230, 42, 3, 181, 0, 233, 42, 3, 181, 0, 236, 42, 3, 181, 0, 239, 4, 60, 27, 8]
abbrev dktX3_findKernel_0 : List UInt8 := dkwX3_findKernel_0 ++ dktX3_findKernel_1
theorem dksX3_findKernel_0 : cX3_findKernel.data.toList.drop 0 = dktX3_findKernel_0 := by decide +kernel
theorem dksX3_findKernel_1 : cX3_findKernel.data.toList.drop 23 = dktX3_findKernel_1 := dk_seg dksX3_findKernel_0 23 rfl rfl
theorem dksX3_findKernel_2 : cX3_findKernel.data.toList.drop 45 = dktX3_findKernel_2 := dk_seg dksX3_findKernel_1 22 rfl rfl
theorem dksX3_findKernel_3 : cX3_findKernel.data.toList.drop 69 = dktX3_findKernel_3 := dk_seg dksX3_findKernel_2 24 rfl rfl
theorem dksX3_findKernel_4 : cX3_findKernel.data.toList.drop 93 = dktX3_findKernel_4 := dk_seg dksX3_findKernel_3 24 rfl rfl
theorem dksX3_findKernel_5 : cX3_findKernel.data.toList.drop 117 = dktX3_findKernel_5 := dk_seg dksX3_findKernel_4 24 rfl rfl
theorem dksX3_findKernel_6 : cX3_findKernel.data.toList.drop 140 = dktX3_findKernel_6 := dk_seg dksX3_findKernel_5 23 rfl rfl
theorem dX3_findKernel_0 : decode cX3_findKernel 0 = .ok (.aload_n 0, 1) := dk_42 (dk_at dksX3_findKernel_0 0 rfl rfl)
theorem dX3_findKernel_1 : decode cX3_findKernel 1 = .ok (.invokevirtual 230, 3) := dk_182 0 230 (dk_at dksX3_findKernel_0 1 rfl rfl)
theorem dX3_findKernel_4 : decode cX3_findKernel 4 = .ok (.aload_n 0, 1) := dk_42 (dk_at dksX3_findKernel_0 4 rfl rfl)
theorem dX3_findKernel_5 : decode cX3_findKernel 5 = .ok (.iconst 0, 1) := dk_3 (dk_at dksX3_findKernel_0 5 rfl rfl)
theorem dX3_findKernel_6 : decode cX3_findKernel 6 = .ok (.putfield 233, 3) := dk_181 0 233 (dk_at dksX3_findKernel_0 6 rfl rfl)
theorem dX3_findKernel_9 : decode cX3_findKernel 9 = .ok (.aload_n 0, 1) := dk_42 (dk_at dksX3_findKernel_0 9 rfl rfl)
theorem dX3_findKernel_10 : decode cX3_findKernel 10 = .ok (.iconst 0, 1) := dk_3 (dk_at dksX3_findKernel_0 10 rfl rfl)
theorem dX3_findKernel_11 : decode cX3_findKernel 11 = .ok (.putfield 236, 3) := dk_181 0 236 (dk_at dksX3_findKernel_0 11 rfl rfl)
theorem dX3_findKernel_14 : decode cX3_findKernel 14 = .ok (.aload_n 0, 1) := dk_42 (dk_at dksX3_findKernel_0 14 rfl rfl)
theorem dX3_findKernel_15 : decode cX3_findKernel 15 = .ok (.iconst 0, 1) := dk_3 (dk_at dksX3_findKernel_0 15 rfl rfl)
theorem dX3_findKernel_16 : decode cX3_findKernel 16 = .ok (.putfield 239, 3) := dk_181 0 239 (dk_at dksX3_findKernel_0 16 rfl rfl)
theorem dX3_findKernel_19 : decode cX3_findKernel 19 = .ok (.iconst 1, 1) := dk_4 (dk_at dksX3_findKernel_0 19 rfl rfl)
theorem dX3_findKernel_20 : decode cX3_findKernel 20 = .ok (.istore_n 1, 1) := dk_60 (dk_at dksX3_findKernel_0 20 rfl rfl)
theorem dX3_findKernel_21 : decode cX3_findKernel 21 = .ok (.iload_n 1, 1) := dk_27 (dk_at dksX3_findKernel_0 21 rfl rfl)
theorem dX3_findKernel_22 : decode cX3_findKernel 22 = .ok (.iconst 5, 1) := dk_8 (dk_at dksX3_findKernel_0 22 rfl rfl)
theorem dX3_findKernel_23 : decode cX3_findKernel 23 = .ok (.if_icmp .gt 120, 3) := dk_163 0 120 (dk_at dksX3_findKernel_1 0 rfl rfl)
theorem dX3_findKernel_26 : decode cX3_findKernel 26 = .ok (.iconst 1, 1) := dk_4 (dk_at dksX3_findKernel_1 3 rfl rfl)
theorem dX3_findKernel_27 : decode cX3_findKernel 27 = .ok (.istore_n 2, 1) := dk_61 (dk_at dksX3_findKernel_1 4 rfl rfl)
theorem dX3_findKernel_28 : decode cX3_findKernel 28 = .ok (.iload_n 2, 1) := dk_28 (dk_at dksX3_findKernel_1 5 rfl rfl)
theorem dX3_findKernel_29 : decode cX3_findKernel 29 = .ok (.iconst 1, 1) := dk_4 (dk_at dksX3_findKernel_1 6 rfl rfl)
theorem dX3_findKernel_30 : decode cX3_findKernel 30 = .ok (.aload_n 0, 1) := dk_42 (dk_at dksX3_findKernel_1 7 rfl rfl)
theorem dX3_findKernel_31 : decode cX3_findKernel 31 = .ok (.iconst 1, 1) := dk_4 (dk_at dksX3_findKernel_1 8 rfl rfl)
theorem dX3_findKernel_32 : decode cX3_findKernel 32 = .ok (.invokevirtual 158, 3) := dk_182 0 158 (dk_at dksX3_findKernel_1 9 rfl rfl)
theorem dX3_findKernel_35 : decode cX3_findKernel 35 = .ok (.ishl, 1) := dk_120 (dk_at dksX3_findKernel_1 12 rfl rfl)
theorem dX3_findKernel_36 : decode cX3_findKernel 36 = .ok (.if_icmp .ge 101, 3) := dk_162 0 101 (dk_at dksX3_findKernel_1 13 rfl rfl)
theorem dX3_findKernel_39 : decode cX3_findKernel 39 = .ok (.iconst 1, 1) := dk_4 (dk_at dksX3_findKernel_1 16 rfl rfl)
theorem dX3_findKernel_40 : decode cX3_findKernel 40 = .ok (.istore_n 3, 1) := dk_62 (dk_at dksX3_findKernel_1 17 rfl rfl)
theorem dX3_findKernel_41 : decode cX3_findKernel 41 = .ok (.iload_n 3, 1) := dk_29 (dk_at dksX3_findKernel_1 18 rfl rfl)
theorem dX3_findKernel_42 : decode cX3_findKernel 42 = .ok (.iconst 1, 1) := dk_4 (dk_at dksX3_findKernel_1 19 rfl rfl)
theorem dX3_findKernel_43 : decode cX3_findKernel 43 = .ok (.aload_n 0, 1) := dk_42 (dk_at dksX3_findKernel_1 20 rfl rfl)
theorem dX3_findKernel_44 : decode cX3_findKernel 44 = .ok (.iconst 0, 1) := dk_3 (dk_at dksX3_findKernel_1 21 rfl rfl)
theorem dX3_findKernel_45 : decode cX3_findKernel 45 = .ok (.invokevirtual 158, 3) := dk_182 0 158 (dk_at dksX3_findKernel_2 0 rfl rfl)
theorem dX3_findKernel_48 : decode cX3_findKernel 48 = .ok (.ishl, 1) := dk_120 (dk_at dksX3_findKernel_2 3 rfl rfl)
theorem dX3_findKernel_49 : decode cX3_findKernel 49 = .ok (.if_icmp .ge 82, 3) := dk_162 0 82 (dk_at dksX3_findKernel_2 4 rfl rfl)
theorem dX3_findKernel_52 : decode cX3_findKernel 52 = .ok (.iload_n 2, 1) := dk_28 (dk_at dksX3_findKernel_2 7 rfl rfl)
theorem dX3_findKernel_53 : decode cX3_findKernel 53 = .ok (.invokestatic 202, 3) := dk_184 0 202 (dk_at dksX3_findKernel_2 8 rfl rfl)
theorem dX3_findKernel_56 : decode cX3_findKernel 56 = .ok (.iload_n 1, 1) := dk_27 (dk_at dksX3_findKernel_2 11 rfl rfl)
theorem dX3_findKernel_57 : decode cX3_findKernel 57 = .ok (.if_icmp .ne 68, 3) := dk_160 0 68 (dk_at dksX3_findKernel_2 12 rfl rfl)
theorem dX3_findKernel_60 : decode cX3_findKernel 60 = .ok (.iload_n 3, 1) := dk_29 (dk_at dksX3_findKernel_2 15 rfl rfl)
theorem dX3_findKernel_61 : decode cX3_findKernel 61 = .ok (.invokestatic 202, 3) := dk_184 0 202 (dk_at dksX3_findKernel_2 16 rfl rfl)
theorem dX3_findKernel_64 : decode cX3_findKernel 64 = .ok (.iload_n 1, 1) := dk_27 (dk_at dksX3_findKernel_2 19 rfl rfl)
theorem dX3_findKernel_65 : decode cX3_findKernel 65 = .ok (.if_icmp .ne 60, 3) := dk_160 0 60 (dk_at dksX3_findKernel_2 20 rfl rfl)
theorem dX3_findKernel_68 : decode cX3_findKernel 68 = .ok (.aload_n 0, 1) := dk_42 (dk_at dksX3_findKernel_2 23 rfl rfl)
theorem dX3_findKernel_69 : decode cX3_findKernel 69 = .ok (.iload_n 2, 1) := dk_28 (dk_at dksX3_findKernel_3 0 rfl rfl)
theorem dX3_findKernel_70 : decode cX3_findKernel 70 = .ok (.iload_n 3, 1) := dk_29 (dk_at dksX3_findKernel_3 1 rfl rfl)
theorem dX3_findKernel_71 : decode cX3_findKernel 71 = .ok (.invokevirtual 242, 3) := dk_182 0 242 (dk_at dksX3_findKernel_3 2 rfl rfl)
theorem dX3_findKernel_74 : decode cX3_findKernel 74 = .ok (.ifCond .eq 51, 3) := dk_153 0 51 (dk_at dksX3_findKernel_3 5 rfl rfl)
theorem dX3_findKernel_77 : decode cX3_findKernel 77 = .ok (.aload_n 0, 1) := dk_42 (dk_at dksX3_findKernel_3 8 rfl rfl)
theorem dX3_findKernel_78 : decode cX3_findKernel 78 = .ok (.aload_n 0, 1) := dk_42 (dk_at dksX3_findKernel_3 9 rfl rfl)
theorem dX3_findKernel_79 : decode cX3_findKernel 79 = .ok (.getfield 239, 3) := dk_180 0 239 (dk_at dksX3_findKernel_3 10 rfl rfl)
theorem dX3_findKernel_82 : decode cX3_findKernel 82 = .ok (.ifCond .ne 7, 3) := dk_154 0 7 (dk_at dksX3_findKernel_3 13 rfl rfl)
theorem dX3_findKernel_85 : decode cX3_findKernel 85 = .ok (.iload_n 2, 1) := dk_28 (dk_at dksX3_findKernel_3 16 rfl rfl)
theorem dX3_findKernel_86 : decode cX3_findKernel 86 = .ok (.goto 7, 3) := dk_167 0 7 (dk_at dksX3_findKernel_3 17 rfl rfl)
theorem dX3_findKernel_89 : decode cX3_findKernel 89 = .ok (.aload_n 0, 1) := dk_42 (dk_at dksX3_findKernel_3 20 rfl rfl)
theorem dX3_findKernel_90 : decode cX3_findKernel 90 = .ok (.getfield 233, 3) := dk_180 0 233 (dk_at dksX3_findKernel_3 21 rfl rfl)
theorem dX3_findKernel_93 : decode cX3_findKernel 93 = .ok (.putfield 233, 3) := dk_181 0 233 (dk_at dksX3_findKernel_4 0 rfl rfl)
theorem dX3_findKernel_96 : decode cX3_findKernel 96 = .ok (.aload_n 0, 1) := dk_42 (dk_at dksX3_findKernel_4 3 rfl rfl)
theorem dX3_findKernel_97 : decode cX3_findKernel 97 = .ok (.aload_n 0, 1) := dk_42 (dk_at dksX3_findKernel_4 4 rfl rfl)
theorem dX3_findKernel_98 : decode cX3_findKernel 98 = .ok (.getfield 239, 3) := dk_180 0 239 (dk_at dksX3_findKernel_4 5 rfl rfl)
theorem dX3_findKernel_101 : decode cX3_findKernel 101 = .ok (.ifCond .ne 7, 3) := dk_154 0 7 (dk_at dksX3_findKernel_4 8 rfl rfl)
theorem dX3_findKernel_104 : decode cX3_findKernel 104 = .ok (.iload_n 3, 1) := dk_29 (dk_at dksX3_findKernel_4 11 rfl rfl)
theorem dX3_findKernel_105 : decode cX3_findKernel 105 = .ok (.goto 7, 3) := dk_167 0 7 (dk_at dksX3_findKernel_4 12 rfl rfl)
theorem dX3_findKernel_108 : decode cX3_findKernel 108 = .ok (.aload_n 0, 1) := dk_42 (dk_at dksX3_findKernel_4 15 rfl rfl)
theorem dX3_findKernel_109 : decode cX3_findKernel 109 = .ok (.getfield 236, 3) := dk_180 0 236 (dk_at dksX3_findKernel_4 16 rfl rfl)
theorem dX3_findKernel_112 : decode cX3_findKernel 112 = .ok (.putfield 236, 3) := dk_181 0 236 (dk_at dksX3_findKernel_4 19 rfl rfl)
theorem dX3_findKernel_115 : decode cX3_findKernel 115 = .ok (.aload_n 0, 1) := dk_42 (dk_at dksX3_findKernel_4 22 rfl rfl)
theorem dX3_findKernel_116 : decode cX3_findKernel 116 = .ok (.dup, 1) := dk_89 (dk_at dksX3_findKernel_4 23 rfl rfl)
theorem dX3_findKernel_117 : decode cX3_findKernel 117 = .ok (.getfield 239, 3) := dk_180 0 239 (dk_at dksX3_findKernel_5 0 rfl rfl)
theorem dX3_findKernel_120 : decode cX3_findKernel 120 = .ok (.iconst 1, 1) := dk_4 (dk_at dksX3_findKernel_5 3 rfl rfl)
theorem dX3_findKernel_121 : decode cX3_findKernel 121 = .ok (.iadd, 1) := dk_96 (dk_at dksX3_findKernel_5 4 rfl rfl)
theorem dX3_findKernel_122 : decode cX3_findKernel 122 = .ok (.putfield 239, 3) := dk_181 0 239 (dk_at dksX3_findKernel_5 5 rfl rfl)
theorem dX3_findKernel_125 : decode cX3_findKernel 125 = .ok (.iinc 3 1, 3) := dk_132 3 1 (dk_at dksX3_findKernel_5 8 rfl rfl)
theorem dX3_findKernel_128 : decode cX3_findKernel 128 = .ok (.goto (-87), 3) := dk_167 255 169 (dk_at dksX3_findKernel_5 11 rfl rfl)
theorem dX3_findKernel_131 : decode cX3_findKernel 131 = .ok (.iinc 2 1, 3) := dk_132 2 1 (dk_at dksX3_findKernel_5 14 rfl rfl)
theorem dX3_findKernel_134 : decode cX3_findKernel 134 = .ok (.goto (-106), 3) := dk_167 255 150 (dk_at dksX3_findKernel_5 17 rfl rfl)
theorem dX3_findKernel_137 : decode cX3_findKernel 137 = .ok (.iinc 1 1, 3) := dk_132 1 1 (dk_at dksX3_findKernel_5 20 rfl rfl)
theorem dX3_findKernel_140 : decode cX3_findKernel 140 = .ok (.goto (-119), 3) := dk_167 255 137 (dk_at dksX3_findKernel_6 0 rfl rfl)
theorem dX3_findKernel_143 : decode cX3_findKernel 143 = .ok (.return_, 1) := dk_177 (dk_at dksX3_findKernel_6 3 rfl rfl)
/-- PackingDuelModel.findKernel()V -/
def zb198 (G : zPg) (C : zO) (args : List Value) (Q : zQ) (Y : zY) (σ : zS) : Prop := ∃ (a0 : Nat), args = [.ref a0] ∧ (zrc σ (some a0) 4 (fun a4 => zcl C 199 [.ref a4] Y σ (zqV (fun s2 => zput s2 G.1 (some a0) 4 21 (.int (0 : Int32)) (fun s8 => zput s8 G.1 (some a0) 4 22 (.int (0 : Int32)) (fun s16 => zput s16 G.1 (some a0) 4 23 (.int (0 : Int32)) (fun s24 => ∃ n, zIt (fun _ _ => False) (fun rec34 (p32 : Int32) (s33 : zS) => (((5 : Int32) < p32) → Q none s33) ∧ ((¬ (5 : Int32) < p32) → ∃ n, zIt (fun _ _ => False) (fun rec38 (p36 : Int32) (s37 : zS) => zrc s37 (some a0) 4 (fun a42 => zcl C 189 [.ref a42, .int (1 : Int32)] Y s37 (zqI (fun v39 s40 => ((((1 : Int32) <<< (v39 &&& 31)) ≤ p36) → (∀ v47 : Int32, v47 = p32 + (1 : Int32) → rec34 v47 s40)) ∧ ((¬ ((1 : Int32) <<< (v39 &&& 31)) ≤ p36) → ∃ n, zIt (fun _ _ => False) (fun rec51 (p49 : Int32) (s50 : zS) => zrc s50 (some a0) 4 (fun a55 => zcl C 189 [.ref a55, .int (0 : Int32)] Y s50 (zqI (fun v52 s53 => ((((1 : Int32) <<< (v52 &&& 31)) ≤ p49) → (∀ v60 : Int32, v60 = p36 + (1 : Int32) → rec38 v60 s53)) ∧ ((¬ ((1 : Int32) <<< (v52 &&& 31)) ≤ p49) → zcl C 433 [.int p36] Y s53 (zqI (fun v62 s63 => zJ (fun  (s65 : zS) => (∀ v67 : Int32, v67 = p49 + (1 : Int32) → rec51 v67 s65)) (fun (j66 : zS → Prop) => ((¬ v62 = p32) → j66 s63) ∧ ((v62 = p32) → zcl C 433 [.int p49] Y s63 (zqI (fun v70 s71 => ((¬ v70 = p32) → j66 s71) ∧ ((v70 = p32) → zrc s71 (some a0) 4 (fun a77 => zcl C 200 [.ref a77, .int p36, .int p49] Y s71 (zqI (fun v74 s75 => ((v74 = 0) → j66 s75) ∧ ((¬ v74 = 0) → zgI s75 (some a0) 4 23 (fun v82 => zJ (fun (p88 : Int32) (s89 : zS) => zput s89 G.1 (some a0) 4 21 (.int p88) (fun s91 => zgI s91 (some a0) 4 23 (fun v99 => zJ (fun (p105 : Int32) (s106 : zS) => zput s106 G.1 (some a0) 4 22 (.int p105) (fun s108 => zgI s108 (some a0) 4 23 (fun v116 => zput s108 G.1 (some a0) 4 23 (.int (v116 + (1 : Int32))) (fun s122 => j66 s122)))) (fun (j107 : Int32 → zS → Prop) => ((¬ v99 = 0) → zgI s91 (some a0) 4 22 (fun v131 => j107 v131 s91)) ∧ ((v99 = 0) → j107 p49 s91))))) (fun (j90 : Int32 → zS → Prop) => ((¬ v82 = 0) → zgI s75 (some a0) 4 21 (fun v138 => j90 v138 s75)) ∧ ((v82 = 0) → j90 p36 s75))))))))))))))))))) n (1 : Int32) s40))))) n (1 : Int32) s33)) n (1 : Int32) s24)))))))
set_option maxHeartbeats 4000000 in
theorem wk198 {l : Launch} {g : zG} {d : Nat} {C : zO} (hG : zGk g) (hC : zSound l g d C) {args : List Value} {Q : zQ} {Y : zY} {σ : zS} (hw : zb198 (zpg g) C args Q Y σ) : zMet l g (d + 1) (⟨"PackingDuelModel", "findKernel", "()V"⟩, Cond.code ⟨"PackingDuelModel", "findKernel", "()V"⟩ prog_28_method_43_code 4 (Option.none : Option FieldType)) args σ Q Y := by
  obtain ⟨a0, rfl, hw⟩ := hw
  refine zof hG (by decide +kernel) [false] ⟨rfl, trivial⟩ (Nat.le_of_ble_eq_true rfl) (ls := [some (va_rf (some a0)), none, none, none]) rfl ?_
  intro X hX hR hTb hd1 hd2 hl hg hnm
  subst hl
  subst hg
  have hd : zDep X d := ⟨hd1, hd2⟩
  refine z_aload_n hX dX3_findKernel_0 rfl (i := 0) rfl ?_
  obtain ⟨a4, f5, r6, m7, hw⟩ := hw
  refine z_invV hX hd r6 (ci := 4) rfl rfl m7 dX3_findKernel_1 (hC 199 _ zm199 _ _ _ _ hw) q2761 q2763 qs71 zh7 q2764 q136 zn199 rfl (Nat.le_of_ble_eq_true rfl) (st := []) rfl (zcs8 (Nat.le_of_ble_eq_true rfl)) rfl (zkV (fun s2 hw => ?_)) (zout hX hR hTb)
  refine z_aload_n hX dX3_findKernel_4 rfl (i := 0) rfl ?_
  refine z_iconst hX (v := (0 : Int32)) dX3_findKernel_5 (by decide) ?_
  obtain ⟨a10, f11, r12, g13, m14, l15, hw⟩ := hw
  refine z_put hX zc4 (k := 21) dX3_findKernel_6 (Nat.le_of_ble_eq_true rfl) (zlk hX q2490) rfl rfl rfl r12 g13 m14 l15 (z_nm (fun s8 e9 => ?_))
  have hw := hw s8 e9
  refine z_aload_n hX dX3_findKernel_9 rfl (i := 0) rfl ?_
  refine z_iconst hX (v := (0 : Int32)) dX3_findKernel_10 (by decide) ?_
  obtain ⟨a18, f19, r20, g21, m22, l23, hw⟩ := hw
  refine z_put hX zc4 (k := 22) dX3_findKernel_11 (Nat.le_of_ble_eq_true rfl) (zlk hX q2491) rfl rfl rfl r20 g21 m22 l23 (z_nm (fun s16 e17 => ?_))
  have hw := hw s16 e17
  refine z_aload_n hX dX3_findKernel_14 rfl (i := 0) rfl ?_
  refine z_iconst hX (v := (0 : Int32)) dX3_findKernel_15 (by decide) ?_
  obtain ⟨a26, f27, r28, g29, m30, l31, hw⟩ := hw
  refine z_put hX zc4 (k := 23) dX3_findKernel_16 (Nat.le_of_ble_eq_true rfl) (zlk hX q2492) rfl rfl rfl r28 g29 m30 l31 (z_nm (fun s24 e25 => ?_))
  have hw := hw s24 e25
  refine z_iconst hX (v := (1 : Int32)) dX3_findKernel_19 (by decide) ?_
  refine z_istore_n hX dX3_findKernel_20 rfl (i := 1) (Nat.le_of_ble_eq_true rfl) (zc_rf _) (ls2 := [some (va_rf (some a0)), some (.int (1 : Int32)), none, none]) rfl ?_
  obtain ⟨n146, hw⟩ := hw
  refine zIt_w (P := fun (j : Int32 → zS → Prop) => ∀ (p32 : Int32) (s33 : zS), j p32 s33 → zW X s33 21 [some (va_rf (some a0)), some (.int p32), none, none] []) (fun _ _ h => h.elim) (fun rec34 hrec34 p32 s33 hw => ?_) n146 _ _ hw
  refine z_iload_n hX dX3_findKernel_21 rfl (i := 1) rfl ?_
  refine z_iconst hX (v := (5 : Int32)) dX3_findKernel_22 (by decide) ?_
  refine z_icmp_gt hX dX3_findKernel_23 (tgt := 143) rfl (fun c35 => ?_) (fun c35 => ?_)
  · have hw := hw.1 c35
    exact z_return hX hR dX3_findKernel_143 hw
  · have hw := hw.2 c35
    refine z_iconst hX (v := (1 : Int32)) dX3_findKernel_26 (by decide) ?_
    refine z_istore_n hX dX3_findKernel_27 rfl (i := 2) (Nat.le_of_ble_eq_true rfl) rfl (ls2 := [some (va_rf (some a0)), some (.int p32), some (.int (1 : Int32)), none]) rfl ?_
    obtain ⟨n145, hw⟩ := hw
    refine zIt_w (P := fun (j : Int32 → zS → Prop) => ∀ (p36 : Int32) (s37 : zS), j p36 s37 → zW X s37 28 [some (va_rf (some a0)), some (.int p32), some (.int p36), none] []) (fun _ _ h => h.elim) (fun rec38 hrec38 p36 s37 hw => ?_) n145 _ _ hw
    refine z_iload_n hX dX3_findKernel_28 rfl (i := 2) rfl ?_
    refine z_iconst hX (v := (1 : Int32)) dX3_findKernel_29 (by decide) ?_
    refine z_aload_n hX dX3_findKernel_30 rfl (i := 0) rfl ?_
    refine z_iconst hX (v := (1 : Int32)) dX3_findKernel_31 (by decide) ?_
    obtain ⟨a42, f43, r44, m45, hw⟩ := hw
    refine z_invV hX hd r44 (ci := 4) rfl rfl m45 dX3_findKernel_32 (hC 189 _ zm189 _ _ _ _ hw) q2723 q2725 qs65 zh7 q2726 q136 zn189 rfl (Nat.le_of_ble_eq_true rfl) (st := [.int (1 : Int32), .int p36]) rfl (zcs8 (Nat.le_of_ble_eq_true rfl)) rfl (zkI (fun v39 s40 hw => ?_)) (zout hX hR hTb)
    refine z_ishl hX dX3_findKernel_35 ?_
    refine z_icmp_ge hX dX3_findKernel_36 (tgt := 137) rfl (fun c46 => ?_) (fun c46 => ?_)
    · have hw := hw.1 c46
      obtain ⟨v47, e48⟩ : ∃ y : Int32, y = p32 + (1 : Int32) := ⟨_, rfl⟩
      refine z_iinc hX dX3_findKernel_137 (i := 1) (v := v47) rfl (by rw [e48]; rfl) (Nat.le_of_ble_eq_true rfl) (zc_rf _) (ls2 := [some (va_rf (some a0)), some (.int v47), some (.int p36), none]) rfl ?_
      have hw := hw v47 e48
      refine z_goto hX dX3_findKernel_140 (tgt := 21) rfl ?_
      refine z_sub (ls' := [some (va_rf (some a0)), some (.int v47), none, none]) (zsS (zsS (zsN (zsN (zs0))))) ?_
      exact hrec34 _ _ hw
    · have hw := hw.2 c46
      refine z_iconst hX (v := (1 : Int32)) dX3_findKernel_39 (by decide) ?_
      refine z_istore_n hX dX3_findKernel_40 rfl (i := 3) (Nat.le_of_ble_eq_true rfl) rfl (ls2 := [some (va_rf (some a0)), some (.int p32), some (.int p36), some (.int (1 : Int32))]) rfl ?_
      obtain ⟨n144, hw⟩ := hw
      refine zIt_w (P := fun (j : Int32 → zS → Prop) => ∀ (p49 : Int32) (s50 : zS), j p49 s50 → zW X s50 41 [some (va_rf (some a0)), some (.int p32), some (.int p36), some (.int p49)] []) (fun _ _ h => h.elim) (fun rec51 hrec51 p49 s50 hw => ?_) n144 _ _ hw
      refine z_iload_n hX dX3_findKernel_41 rfl (i := 3) rfl ?_
      refine z_iconst hX (v := (1 : Int32)) dX3_findKernel_42 (by decide) ?_
      refine z_aload_n hX dX3_findKernel_43 rfl (i := 0) rfl ?_
      refine z_iconst hX (v := (0 : Int32)) dX3_findKernel_44 (by decide) ?_
      obtain ⟨a55, f56, r57, m58, hw⟩ := hw
      refine z_invV hX hd r57 (ci := 4) rfl rfl m58 dX3_findKernel_45 (hC 189 _ zm189 _ _ _ _ hw) q2723 q2725 qs65 zh7 q2726 q136 zn189 rfl (Nat.le_of_ble_eq_true rfl) (st := [.int (1 : Int32), .int p49]) rfl (zcs8 (Nat.le_of_ble_eq_true rfl)) rfl (zkI (fun v52 s53 hw => ?_)) (zout hX hR hTb)
      refine z_ishl hX dX3_findKernel_48 ?_
      refine z_icmp_ge hX dX3_findKernel_49 (tgt := 131) rfl (fun c59 => ?_) (fun c59 => ?_)
      · have hw := hw.1 c59
        obtain ⟨v60, e61⟩ : ∃ y : Int32, y = p36 + (1 : Int32) := ⟨_, rfl⟩
        refine z_iinc hX dX3_findKernel_131 (i := 2) (v := v60) rfl (by rw [e61]; rfl) (Nat.le_of_ble_eq_true rfl) rfl (ls2 := [some (va_rf (some a0)), some (.int p32), some (.int v60), some (.int p49)]) rfl ?_
        have hw := hw v60 e61
        refine z_goto hX dX3_findKernel_134 (tgt := 28) rfl ?_
        refine z_sub (ls' := [some (va_rf (some a0)), some (.int p32), some (.int v60), none]) (zsS (zsS (zsS (zsN (zs0))))) ?_
        exact hrec38 _ _ hw
      · have hw := hw.2 c59
        refine z_iload_n hX dX3_findKernel_52 rfl (i := 2) rfl ?_
        refine z_invS hX hd dX3_findKernel_53 (hC 433 _ zm433 _ _ _ _ hw) q2765 q531 zh24 q532 q154 zn433 rfl (Nat.le_of_ble_eq_true rfl) (st := []) rfl (zcs8 (Nat.le_of_ble_eq_true rfl)) rfl (zkI (fun v62 s63 hw => ?_)) (zout hX hR hTb)
        refine z_iload_n hX dX3_findKernel_56 rfl (i := 1) rfl ?_
        refine zJ_w (P := fun (j : zS → Prop) => ∀  (s65 : zS), j  s65 → zW X s65 125 [some (va_rf (some a0)), some (.int p32), some (.int p36), some (.int p49)] []) hw (fun  s65 hw => ?_) (fun j66 hj66 hw => ?_)
        · obtain ⟨v67, e68⟩ : ∃ y : Int32, y = p49 + (1 : Int32) := ⟨_, rfl⟩
          refine z_iinc hX dX3_findKernel_125 (i := 3) (v := v67) rfl (by rw [e68]; rfl) (Nat.le_of_ble_eq_true rfl) rfl (ls2 := [some (va_rf (some a0)), some (.int p32), some (.int p36), some (.int v67)]) rfl ?_
          have hw := hw v67 e68
          refine z_goto hX dX3_findKernel_128 (tgt := 41) rfl ?_
          exact hrec51 _ _ hw
        · refine z_icmp_ne hX dX3_findKernel_57 (tgt := 125) rfl (fun c69 => ?_) (fun c69 => ?_)
          · have hw := hw.1 c69
            exact hj66  _ hw
          · have hw := hw.2 c69
            refine z_iload_n hX dX3_findKernel_60 rfl (i := 3) rfl ?_
            refine z_invS hX hd dX3_findKernel_61 (hC 433 _ zm433 _ _ _ _ hw) q2765 q531 zh24 q532 q154 zn433 rfl (Nat.le_of_ble_eq_true rfl) (st := []) rfl (zcs8 (Nat.le_of_ble_eq_true rfl)) rfl (zkI (fun v70 s71 hw => ?_)) (zout hX hR hTb)
            refine z_iload_n hX dX3_findKernel_64 rfl (i := 1) rfl ?_
            refine z_icmp_ne hX dX3_findKernel_65 (tgt := 125) rfl (fun c73 => ?_) (fun c73 => ?_)
            · have hw := hw.1 c73
              exact hj66  _ hw
            · have hw := hw.2 c73
              refine z_aload_n hX dX3_findKernel_68 rfl (i := 0) rfl ?_
              refine z_iload_n hX dX3_findKernel_69 rfl (i := 2) rfl ?_
              refine z_iload_n hX dX3_findKernel_70 rfl (i := 3) rfl ?_
              obtain ⟨a77, f78, r79, m80, hw⟩ := hw
              refine z_invV hX hd r79 (ci := 4) rfl rfl m80 dX3_findKernel_71 (hC 200 _ zm200 _ _ _ _ hw) q2766 q2768 qs72 zh7 q2769 q136 zn200 rfl (Nat.le_of_ble_eq_true rfl) (st := []) rfl (zcs8 (Nat.le_of_ble_eq_true rfl)) rfl (zkI (fun v74 s75 hw => ?_)) (zout hX hR hTb)
              refine z_if_eq hX dX3_findKernel_74 (tgt := 125) rfl (fun c81 => ?_) (fun c81 => ?_)
              · have hw := hw.1 c81
                exact hj66  _ hw
              · have hw := hw.2 c81
                refine z_aload_n hX dX3_findKernel_77 rfl (i := 0) rfl ?_
                refine z_aload_n hX dX3_findKernel_78 rfl (i := 0) rfl ?_
                obtain ⟨a83, f84, v82, r85, m86, e87, hw⟩ := hw
                refine z_get hX zc4 (k := 23) dX3_findKernel_79 (Nat.le_of_ble_eq_true rfl) (zlk hX q2492) r85 m86 e87 ?_
                refine zJ_w (P := fun (j : Int32 → zS → Prop) => ∀ (p88 : Int32) (s89 : zS), j p88 s89 → zW X s89 93 [some (va_rf (some a0)), some (.int p32), some (.int p36), some (.int p49)] [.int p88, va_rf (some a0)]) hw (fun p88 s89 hw => ?_) (fun j90 hj90 hw => ?_)
                · obtain ⟨a93, f94, r95, g96, m97, l98, hw⟩ := hw
                  refine z_put hX zc4 (k := 21) dX3_findKernel_93 (Nat.le_of_ble_eq_true rfl) (zlk hX q2490) rfl rfl rfl r95 g96 m97 l98 (z_nm (fun s91 e92 => ?_))
                  have hw := hw s91 e92
                  refine z_aload_n hX dX3_findKernel_96 rfl (i := 0) rfl ?_
                  refine z_aload_n hX dX3_findKernel_97 rfl (i := 0) rfl ?_
                  obtain ⟨a100, f101, v99, r102, m103, e104, hw⟩ := hw
                  refine z_get hX zc4 (k := 23) dX3_findKernel_98 (Nat.le_of_ble_eq_true rfl) (zlk hX q2492) r102 m103 e104 ?_
                  refine zJ_w (P := fun (j : Int32 → zS → Prop) => ∀ (p105 : Int32) (s106 : zS), j p105 s106 → zW X s106 112 [some (va_rf (some a0)), some (.int p32), some (.int p36), some (.int p49)] [.int p105, va_rf (some a0)]) hw (fun p105 s106 hw => ?_) (fun j107 hj107 hw => ?_)
                  · obtain ⟨a110, f111, r112, g113, m114, l115, hw⟩ := hw
                    refine z_put hX zc4 (k := 22) dX3_findKernel_112 (Nat.le_of_ble_eq_true rfl) (zlk hX q2491) rfl rfl rfl r112 g113 m114 l115 (z_nm (fun s108 e109 => ?_))
                    have hw := hw s108 e109
                    refine z_aload_n hX dX3_findKernel_115 rfl (i := 0) rfl ?_
                    refine z_dup hX dX3_findKernel_116 (zc_rf _) ?_
                    obtain ⟨a117, f118, v116, r119, m120, e121, hw⟩ := hw
                    refine z_get hX zc4 (k := 23) dX3_findKernel_117 (Nat.le_of_ble_eq_true rfl) (zlk hX q2492) r119 m120 e121 ?_
                    refine z_iconst hX (v := (1 : Int32)) dX3_findKernel_120 (by decide) ?_
                    refine z_iadd hX dX3_findKernel_121 ?_
                    obtain ⟨a124, f125, r126, g127, m128, l129, hw⟩ := hw
                    refine z_put hX zc4 (k := 23) dX3_findKernel_122 (Nat.le_of_ble_eq_true rfl) (zlk hX q2492) rfl rfl rfl r126 g127 m128 l129 (z_nm (fun s122 e123 => ?_))
                    have hw := hw s122 e123
                    exact hj66  _ hw
                  · refine z_if_ne hX dX3_findKernel_101 (tgt := 108) rfl (fun c130 => ?_) (fun c130 => ?_)
                    · have hw := hw.1 c130
                      refine z_aload_n hX dX3_findKernel_108 rfl (i := 0) rfl ?_
                      obtain ⟨a132, f133, v131, r134, m135, e136, hw⟩ := hw
                      refine z_get hX zc4 (k := 22) dX3_findKernel_109 (Nat.le_of_ble_eq_true rfl) (zlk hX q2491) r134 m135 e136 ?_
                      exact hj107 _ _ hw
                    · have hw := hw.2 c130
                      refine z_iload_n hX dX3_findKernel_104 rfl (i := 3) rfl ?_
                      refine z_goto hX dX3_findKernel_105 (tgt := 112) rfl ?_
                      exact hj107 _ _ hw
                · refine z_if_ne hX dX3_findKernel_82 (tgt := 89) rfl (fun c137 => ?_) (fun c137 => ?_)
                  · have hw := hw.1 c137
                    refine z_aload_n hX dX3_findKernel_89 rfl (i := 0) rfl ?_
                    obtain ⟨a139, f140, v138, r141, m142, e143, hw⟩ := hw
                    refine z_get hX zc4 (k := 21) dX3_findKernel_90 (Nat.le_of_ble_eq_true rfl) (zlk hX q2490) r141 m142 e143 ?_
                    exact hj90 _ _ hw
                  · have hw := hw.2 c137
                    refine z_iload_n hX dX3_findKernel_85 rfl (i := 2) rfl ?_
                    refine z_goto hX dX3_findKernel_86 (tgt := 93) rfl ?_
                    exact hj90 _ _ hw
abbrev cX3_layTable : ByteArray := prog_28_method_32_code
def yX3_layTable : MethodName := ⟨RX3, "layTable", "()V"⟩
def dkwX3_layTable_2 : List UInt8 := [167, 255, 211, 177]
abbrev dktX3_layTable_2 : List UInt8 := dkwX3_layTable_2 ++ []
def dkwX3_layTable_1 : List UInt8 := [180, 0, 37, 8, 27, 104, 28, 96, 42, 27, 28, 182, 0, 171, 79, 132, 2, 1, 167, 255, 228, 132, 1, 1]
abbrev dktX3_layTable_1 : List UInt8 := dkwX3_layTable_1 ++ dktX3_layTable_2
def dkwX3_layTable_0 : List UInt8 := [3, 60, 27, 42, 4, 182, 0, 158, 162, 0, 42, 3, 61, 28, 42, 3, 182, 0, 158, 162, 0, 25, 42]
abbrev dktX3_layTable_0 : List UInt8 := dkwX3_layTable_0 ++ dktX3_layTable_1
theorem dksX3_layTable_0 : cX3_layTable.data.toList.drop 0 = dktX3_layTable_0 := by decide +kernel
theorem dksX3_layTable_1 : cX3_layTable.data.toList.drop 23 = dktX3_layTable_1 := dk_seg dksX3_layTable_0 23 rfl rfl
theorem dksX3_layTable_2 : cX3_layTable.data.toList.drop 47 = dktX3_layTable_2 := dk_seg dksX3_layTable_1 24 rfl rfl
theorem dX3_layTable_0 : decode cX3_layTable 0 = .ok (.iconst 0, 1) := dk_3 (dk_at dksX3_layTable_0 0 rfl rfl)
theorem dX3_layTable_1 : decode cX3_layTable 1 = .ok (.istore_n 1, 1) := dk_60 (dk_at dksX3_layTable_0 1 rfl rfl)
theorem dX3_layTable_2 : decode cX3_layTable 2 = .ok (.iload_n 1, 1) := dk_27 (dk_at dksX3_layTable_0 2 rfl rfl)
theorem dX3_layTable_3 : decode cX3_layTable 3 = .ok (.aload_n 0, 1) := dk_42 (dk_at dksX3_layTable_0 3 rfl rfl)
theorem dX3_layTable_4 : decode cX3_layTable 4 = .ok (.iconst 1, 1) := dk_4 (dk_at dksX3_layTable_0 4 rfl rfl)
theorem dX3_layTable_5 : decode cX3_layTable 5 = .ok (.invokevirtual 158, 3) := dk_182 0 158 (dk_at dksX3_layTable_0 5 rfl rfl)
theorem dX3_layTable_8 : decode cX3_layTable 8 = .ok (.if_icmp .ge 42, 3) := dk_162 0 42 (dk_at dksX3_layTable_0 8 rfl rfl)
theorem dX3_layTable_11 : decode cX3_layTable 11 = .ok (.iconst 0, 1) := dk_3 (dk_at dksX3_layTable_0 11 rfl rfl)
theorem dX3_layTable_12 : decode cX3_layTable 12 = .ok (.istore_n 2, 1) := dk_61 (dk_at dksX3_layTable_0 12 rfl rfl)
theorem dX3_layTable_13 : decode cX3_layTable 13 = .ok (.iload_n 2, 1) := dk_28 (dk_at dksX3_layTable_0 13 rfl rfl)
theorem dX3_layTable_14 : decode cX3_layTable 14 = .ok (.aload_n 0, 1) := dk_42 (dk_at dksX3_layTable_0 14 rfl rfl)
theorem dX3_layTable_15 : decode cX3_layTable 15 = .ok (.iconst 0, 1) := dk_3 (dk_at dksX3_layTable_0 15 rfl rfl)
theorem dX3_layTable_16 : decode cX3_layTable 16 = .ok (.invokevirtual 158, 3) := dk_182 0 158 (dk_at dksX3_layTable_0 16 rfl rfl)
theorem dX3_layTable_19 : decode cX3_layTable 19 = .ok (.if_icmp .ge 25, 3) := dk_162 0 25 (dk_at dksX3_layTable_0 19 rfl rfl)
theorem dX3_layTable_22 : decode cX3_layTable 22 = .ok (.aload_n 0, 1) := dk_42 (dk_at dksX3_layTable_0 22 rfl rfl)
theorem dX3_layTable_23 : decode cX3_layTable 23 = .ok (.getfield 37, 3) := dk_180 0 37 (dk_at dksX3_layTable_1 0 rfl rfl)
theorem dX3_layTable_26 : decode cX3_layTable 26 = .ok (.iconst 5, 1) := dk_8 (dk_at dksX3_layTable_1 3 rfl rfl)
theorem dX3_layTable_27 : decode cX3_layTable 27 = .ok (.iload_n 1, 1) := dk_27 (dk_at dksX3_layTable_1 4 rfl rfl)
theorem dX3_layTable_28 : decode cX3_layTable 28 = .ok (.imul, 1) := dk_104 (dk_at dksX3_layTable_1 5 rfl rfl)
theorem dX3_layTable_29 : decode cX3_layTable 29 = .ok (.iload_n 2, 1) := dk_28 (dk_at dksX3_layTable_1 6 rfl rfl)
theorem dX3_layTable_30 : decode cX3_layTable 30 = .ok (.iadd, 1) := dk_96 (dk_at dksX3_layTable_1 7 rfl rfl)
theorem dX3_layTable_31 : decode cX3_layTable 31 = .ok (.aload_n 0, 1) := dk_42 (dk_at dksX3_layTable_1 8 rfl rfl)
theorem dX3_layTable_32 : decode cX3_layTable 32 = .ok (.iload_n 1, 1) := dk_27 (dk_at dksX3_layTable_1 9 rfl rfl)
theorem dX3_layTable_33 : decode cX3_layTable 33 = .ok (.iload_n 2, 1) := dk_28 (dk_at dksX3_layTable_1 10 rfl rfl)
theorem dX3_layTable_34 : decode cX3_layTable 34 = .ok (.invokevirtual 171, 3) := dk_182 0 171 (dk_at dksX3_layTable_1 11 rfl rfl)
theorem dX3_layTable_37 : decode cX3_layTable 37 = .ok (.iastore, 1) := dk_79 (dk_at dksX3_layTable_1 14 rfl rfl)
theorem dX3_layTable_38 : decode cX3_layTable 38 = .ok (.iinc 2 1, 3) := dk_132 2 1 (dk_at dksX3_layTable_1 15 rfl rfl)
theorem dX3_layTable_41 : decode cX3_layTable 41 = .ok (.goto (-28), 3) := dk_167 255 228 (dk_at dksX3_layTable_1 18 rfl rfl)
theorem dX3_layTable_44 : decode cX3_layTable 44 = .ok (.iinc 1 1, 3) := dk_132 1 1 (dk_at dksX3_layTable_1 21 rfl rfl)
theorem dX3_layTable_47 : decode cX3_layTable 47 = .ok (.goto (-45), 3) := dk_167 255 211 (dk_at dksX3_layTable_2 0 rfl rfl)
theorem dX3_layTable_50 : decode cX3_layTable 50 = .ok (.return_, 1) := dk_177 (dk_at dksX3_layTable_2 3 rfl rfl)
/-- PackingDuelModel.layTable()V -/
def zb199 (G : zPg) (C : zO) (args : List Value) (Q : zQ) (Y : zY) (σ : zS) : Prop := ∃ (a0 : Nat), args = [.ref a0] ∧ (∃ n, zIt (fun _ _ => False) (fun rec3 (p1 : Int32) (s2 : zS) => zrc s2 (some a0) 4 (fun a7 => zcl C 189 [.ref a7, .int (1 : Int32)] Y s2 (zqI (fun v4 s5 => ((v4 ≤ p1) → Q none s5) ∧ ((¬ v4 ≤ p1) → ∃ n, zIt (fun _ _ => False) (fun rec14 (p12 : Int32) (s13 : zS) => zrc s13 (some a0) 4 (fun a18 => zcl C 189 [.ref a18, .int (0 : Int32)] Y s13 (zqI (fun v15 s16 => ((v15 ≤ p12) → (∀ v23 : Int32, v23 = p1 + (1 : Int32) → rec3 v23 s16)) ∧ ((¬ v15 ≤ p12) → zgR s16 (some a0) 4 12 (fun v25 => zrc s16 (some a0) 4 (fun a34 => zcl C 194 [.ref a34, .int p1, .int p12] Y s16 (zqI (fun v31 s32 => zsI s32 G.1 0 v25 (((5 : Int32) * p1) + p12) v31 (fun s45 => (∀ v47 : Int32, v47 = p12 + (1 : Int32) → rec14 v47 s45))))))))))) n (0 : Int32) s5))))) n (0 : Int32) σ)
set_option maxHeartbeats 4000000 in
theorem wk199 {l : Launch} {g : zG} {d : Nat} {C : zO} (hG : zGk g) (hC : zSound l g d C) {args : List Value} {Q : zQ} {Y : zY} {σ : zS} (hw : zb199 (zpg g) C args Q Y σ) : zMet l g (d + 1) (⟨"PackingDuelModel", "layTable", "()V"⟩, Cond.code ⟨"PackingDuelModel", "layTable", "()V"⟩ prog_28_method_32_code 3 (Option.none : Option FieldType)) args σ Q Y := by
  obtain ⟨a0, rfl, hw⟩ := hw
  refine zof hG (by decide +kernel) [false] ⟨rfl, trivial⟩ (Nat.le_of_ble_eq_true rfl) (ls := [some (va_rf (some a0)), none, none]) rfl ?_
  intro X hX hR hTb hd1 hd2 hl hg hnm
  subst hl
  subst hg
  have hd : zDep X d := ⟨hd1, hd2⟩
  refine z_iconst hX (v := (0 : Int32)) dX3_layTable_0 (by decide) ?_
  refine z_istore_n hX dX3_layTable_1 rfl (i := 1) (Nat.le_of_ble_eq_true rfl) (zc_rf _) (ls2 := [some (va_rf (some a0)), some (.int (0 : Int32)), none]) rfl ?_
  obtain ⟨n50, hw⟩ := hw
  refine zIt_w (P := fun (j : Int32 → zS → Prop) => ∀ (p1 : Int32) (s2 : zS), j p1 s2 → zW X s2 2 [some (va_rf (some a0)), some (.int p1), none] []) (fun _ _ h => h.elim) (fun rec3 hrec3 p1 s2 hw => ?_) n50 _ _ hw
  refine z_iload_n hX dX3_layTable_2 rfl (i := 1) rfl ?_
  refine z_aload_n hX dX3_layTable_3 rfl (i := 0) rfl ?_
  refine z_iconst hX (v := (1 : Int32)) dX3_layTable_4 (by decide) ?_
  obtain ⟨a7, f8, r9, m10, hw⟩ := hw
  refine z_invV hX hd r9 (ci := 4) rfl rfl m10 dX3_layTable_5 (hC 189 _ zm189 _ _ _ _ hw) q2723 q2725 qs65 zh7 q2726 q136 zn189 rfl (Nat.le_of_ble_eq_true rfl) (st := [.int p1]) rfl (zcs8 (Nat.le_of_ble_eq_true rfl)) rfl (zkI (fun v4 s5 hw => ?_)) (zout hX hR hTb)
  refine z_icmp_ge hX dX3_layTable_8 (tgt := 50) rfl (fun c11 => ?_) (fun c11 => ?_)
  · have hw := hw.1 c11
    exact z_return hX hR dX3_layTable_50 hw
  · have hw := hw.2 c11
    refine z_iconst hX (v := (0 : Int32)) dX3_layTable_11 (by decide) ?_
    refine z_istore_n hX dX3_layTable_12 rfl (i := 2) (Nat.le_of_ble_eq_true rfl) rfl (ls2 := [some (va_rf (some a0)), some (.int p1), some (.int (0 : Int32))]) rfl ?_
    obtain ⟨n49, hw⟩ := hw
    refine zIt_w (P := fun (j : Int32 → zS → Prop) => ∀ (p12 : Int32) (s13 : zS), j p12 s13 → zW X s13 13 [some (va_rf (some a0)), some (.int p1), some (.int p12)] []) (fun _ _ h => h.elim) (fun rec14 hrec14 p12 s13 hw => ?_) n49 _ _ hw
    refine z_iload_n hX dX3_layTable_13 rfl (i := 2) rfl ?_
    refine z_aload_n hX dX3_layTable_14 rfl (i := 0) rfl ?_
    refine z_iconst hX (v := (0 : Int32)) dX3_layTable_15 (by decide) ?_
    obtain ⟨a18, f19, r20, m21, hw⟩ := hw
    refine z_invV hX hd r20 (ci := 4) rfl rfl m21 dX3_layTable_16 (hC 189 _ zm189 _ _ _ _ hw) q2723 q2725 qs65 zh7 q2726 q136 zn189 rfl (Nat.le_of_ble_eq_true rfl) (st := [.int p12]) rfl (zcs8 (Nat.le_of_ble_eq_true rfl)) rfl (zkI (fun v15 s16 hw => ?_)) (zout hX hR hTb)
    refine z_icmp_ge hX dX3_layTable_19 (tgt := 44) rfl (fun c22 => ?_) (fun c22 => ?_)
    · have hw := hw.1 c22
      obtain ⟨v23, e24⟩ : ∃ y : Int32, y = p1 + (1 : Int32) := ⟨_, rfl⟩
      refine z_iinc hX dX3_layTable_44 (i := 1) (v := v23) rfl (by rw [e24]; rfl) (Nat.le_of_ble_eq_true rfl) (zc_rf _) (ls2 := [some (va_rf (some a0)), some (.int v23), some (.int p12)]) rfl ?_
      have hw := hw v23 e24
      refine z_goto hX dX3_layTable_47 (tgt := 2) rfl ?_
      refine z_sub (ls' := [some (va_rf (some a0)), some (.int v23), none]) (zsS (zsS (zsN (zs0)))) ?_
      exact hrec3 _ _ hw
    · have hw := hw.2 c22
      refine z_aload_n hX dX3_layTable_22 rfl (i := 0) rfl ?_
      obtain ⟨a26, f27, v25, r28, m29, e30, hw⟩ := hw
      refine z_get hX zc4 (k := 12) dX3_layTable_23 (Nat.le_of_ble_eq_true rfl) (zlk hX q2481) r28 m29 e30 ?_
      refine z_iconst hX (v := (5 : Int32)) dX3_layTable_26 (by decide) ?_
      refine z_iload_n hX dX3_layTable_27 rfl (i := 1) rfl ?_
      refine z_imul hX dX3_layTable_28 ?_
      refine z_iload_n hX dX3_layTable_29 rfl (i := 2) rfl ?_
      refine z_iadd hX dX3_layTable_30 ?_
      refine z_aload_n hX dX3_layTable_31 rfl (i := 0) rfl ?_
      refine z_iload_n hX dX3_layTable_32 rfl (i := 1) rfl ?_
      refine z_iload_n hX dX3_layTable_33 rfl (i := 2) rfl ?_
      obtain ⟨a34, f35, r36, m37, hw⟩ := hw
      refine z_invV hX hd r36 (ci := 4) rfl rfl m37 dX3_layTable_34 (hC 194 _ zm194 _ _ _ _ hw) q2741 q2743 qs67 zh7 q2744 q136 zn194 rfl (Nat.le_of_ble_eq_true rfl) (st := [.int (((5 : Int32) * p1) + p12), va_rf v25]) rfl (zcs8 (Nat.le_of_ble_eq_true rfl)) rfl (zkI (fun v31 s32 hw => ?_)) (zout hX hR hTb)
      obtain ⟨a38, n39, f40, r41, g42, m43, i44, hw⟩ := hw
      refine z_iast hX dX3_layTable_37 r41 g42 m43 i44 (z_nm (fun s45 e46 => ?_))
      have hw := hw s45 e46
      obtain ⟨v47, e48⟩ : ∃ y : Int32, y = p12 + (1 : Int32) := ⟨_, rfl⟩
      refine z_iinc hX dX3_layTable_38 (i := 2) (v := v47) rfl (by rw [e48]; rfl) (Nat.le_of_ble_eq_true rfl) rfl (ls2 := [some (va_rf (some a0)), some (.int p1), some (.int v47)]) rfl ?_
      have hw := hw v47 e48
      refine z_goto hX dX3_layTable_41 (tgt := 13) rfl ?_
      exact hrec14 _ _ hw
abbrev cX3_layKernel : ByteArray := prog_28_method_42_code
def yX3_layKernel : MethodName := ⟨RX3, "layKernel", "(II)Z"⟩
def dkwX3_layKernel_5 : List UInt8 := [180, 0, 219, 182, 0, 226, 154, 0, 7, 4, 167, 0, 4, 3, 172]
abbrev dktX3_layKernel_5 : List UInt8 := dkwX3_layKernel_5 ++ []
def dkwX3_layKernel_4 : List UInt8 := [182, 0, 222, 153, 0, 5, 3, 172, 42, 4, 42, 180, 0, 215, 182, 0, 226, 154, 0, 19, 42, 3, 42]
abbrev dktX3_layKernel_4 : List UInt8 := dkwX3_layKernel_4 ++ dktX3_layKernel_5
def dkwX3_layKernel_3 : List UInt8 := [180, 0, 50, 42, 180, 0, 215, 182, 0, 222, 154, 0, 18, 42, 42, 180, 0, 53, 42, 180, 0, 219]
abbrev dktX3_layKernel_3 : List UInt8 := dkwX3_layKernel_3 ++ dktX3_layKernel_4
def dkwX3_layKernel_2 : List UInt8 := [181, 0, 219, 42, 180, 0, 215, 9, 148, 153, 0, 42, 42, 180, 0, 219, 9, 148, 153, 0, 33, 42, 42]
abbrev dktX3_layKernel_2 : List UInt8 := dkwX3_layKernel_2 ++ dktX3_layKernel_3
def dkwX3_layKernel_1 : List UInt8 := [42, 42, 4, 42, 180, 0, 50, 182, 0, 211, 181, 0, 215, 42, 42, 3, 42, 180, 0, 53, 182, 0, 211]
abbrev dktX3_layKernel_1 : List UInt8 := dkwX3_layKernel_1 ++ dktX3_layKernel_2
def dkwX3_layKernel_0 : List UInt8 := [42, 27, 184, 0, 202, 181, 0, 186, 42, 180, 0, 40, 27, 184, 0, 207, 42, 180, 0, 43, 28, 184, 0, 207]
abbrev dktX3_layKernel_0 : List UInt8 := dkwX3_layKernel_0 ++ dktX3_layKernel_1
theorem dksX3_layKernel_0 : cX3_layKernel.data.toList.drop 0 = dktX3_layKernel_0 := by decide +kernel
theorem dksX3_layKernel_1 : cX3_layKernel.data.toList.drop 24 = dktX3_layKernel_1 := dk_seg dksX3_layKernel_0 24 rfl rfl
theorem dksX3_layKernel_2 : cX3_layKernel.data.toList.drop 47 = dktX3_layKernel_2 := dk_seg dksX3_layKernel_1 23 rfl rfl
theorem dksX3_layKernel_3 : cX3_layKernel.data.toList.drop 70 = dktX3_layKernel_3 := dk_seg dksX3_layKernel_2 23 rfl rfl
theorem dksX3_layKernel_4 : cX3_layKernel.data.toList.drop 92 = dktX3_layKernel_4 := dk_seg dksX3_layKernel_3 22 rfl rfl
theorem dksX3_layKernel_5 : cX3_layKernel.data.toList.drop 115 = dktX3_layKernel_5 := dk_seg dksX3_layKernel_4 23 rfl rfl
theorem dX3_layKernel_0 : decode cX3_layKernel 0 = .ok (.aload_n 0, 1) := dk_42 (dk_at dksX3_layKernel_0 0 rfl rfl)
theorem dX3_layKernel_1 : decode cX3_layKernel 1 = .ok (.iload_n 1, 1) := dk_27 (dk_at dksX3_layKernel_0 1 rfl rfl)
theorem dX3_layKernel_2 : decode cX3_layKernel 2 = .ok (.invokestatic 202, 3) := dk_184 0 202 (dk_at dksX3_layKernel_0 2 rfl rfl)
theorem dX3_layKernel_5 : decode cX3_layKernel 5 = .ok (.putfield 186, 3) := dk_181 0 186 (dk_at dksX3_layKernel_0 5 rfl rfl)
theorem dX3_layKernel_8 : decode cX3_layKernel 8 = .ok (.aload_n 0, 1) := dk_42 (dk_at dksX3_layKernel_0 8 rfl rfl)
theorem dX3_layKernel_9 : decode cX3_layKernel 9 = .ok (.getfield 40, 3) := dk_180 0 40 (dk_at dksX3_layKernel_0 9 rfl rfl)
theorem dX3_layKernel_12 : decode cX3_layKernel 12 = .ok (.iload_n 1, 1) := dk_27 (dk_at dksX3_layKernel_0 12 rfl rfl)
theorem dX3_layKernel_13 : decode cX3_layKernel 13 = .ok (.invokestatic 207, 3) := dk_184 0 207 (dk_at dksX3_layKernel_0 13 rfl rfl)
theorem dX3_layKernel_16 : decode cX3_layKernel 16 = .ok (.aload_n 0, 1) := dk_42 (dk_at dksX3_layKernel_0 16 rfl rfl)
theorem dX3_layKernel_17 : decode cX3_layKernel 17 = .ok (.getfield 43, 3) := dk_180 0 43 (dk_at dksX3_layKernel_0 17 rfl rfl)
theorem dX3_layKernel_20 : decode cX3_layKernel 20 = .ok (.iload_n 2, 1) := dk_28 (dk_at dksX3_layKernel_0 20 rfl rfl)
theorem dX3_layKernel_21 : decode cX3_layKernel 21 = .ok (.invokestatic 207, 3) := dk_184 0 207 (dk_at dksX3_layKernel_0 21 rfl rfl)
theorem dX3_layKernel_24 : decode cX3_layKernel 24 = .ok (.aload_n 0, 1) := dk_42 (dk_at dksX3_layKernel_1 0 rfl rfl)
theorem dX3_layKernel_25 : decode cX3_layKernel 25 = .ok (.aload_n 0, 1) := dk_42 (dk_at dksX3_layKernel_1 1 rfl rfl)
theorem dX3_layKernel_26 : decode cX3_layKernel 26 = .ok (.iconst 1, 1) := dk_4 (dk_at dksX3_layKernel_1 2 rfl rfl)
theorem dX3_layKernel_27 : decode cX3_layKernel 27 = .ok (.aload_n 0, 1) := dk_42 (dk_at dksX3_layKernel_1 3 rfl rfl)
theorem dX3_layKernel_28 : decode cX3_layKernel 28 = .ok (.getfield 50, 3) := dk_180 0 50 (dk_at dksX3_layKernel_1 4 rfl rfl)
theorem dX3_layKernel_31 : decode cX3_layKernel 31 = .ok (.invokevirtual 211, 3) := dk_182 0 211 (dk_at dksX3_layKernel_1 7 rfl rfl)
theorem dX3_layKernel_34 : decode cX3_layKernel 34 = .ok (.putfield 215, 3) := dk_181 0 215 (dk_at dksX3_layKernel_1 10 rfl rfl)
theorem dX3_layKernel_37 : decode cX3_layKernel 37 = .ok (.aload_n 0, 1) := dk_42 (dk_at dksX3_layKernel_1 13 rfl rfl)
theorem dX3_layKernel_38 : decode cX3_layKernel 38 = .ok (.aload_n 0, 1) := dk_42 (dk_at dksX3_layKernel_1 14 rfl rfl)
theorem dX3_layKernel_39 : decode cX3_layKernel 39 = .ok (.iconst 0, 1) := dk_3 (dk_at dksX3_layKernel_1 15 rfl rfl)
theorem dX3_layKernel_40 : decode cX3_layKernel 40 = .ok (.aload_n 0, 1) := dk_42 (dk_at dksX3_layKernel_1 16 rfl rfl)
theorem dX3_layKernel_41 : decode cX3_layKernel 41 = .ok (.getfield 53, 3) := dk_180 0 53 (dk_at dksX3_layKernel_1 17 rfl rfl)
theorem dX3_layKernel_44 : decode cX3_layKernel 44 = .ok (.invokevirtual 211, 3) := dk_182 0 211 (dk_at dksX3_layKernel_1 20 rfl rfl)
theorem dX3_layKernel_47 : decode cX3_layKernel 47 = .ok (.putfield 219, 3) := dk_181 0 219 (dk_at dksX3_layKernel_2 0 rfl rfl)
theorem dX3_layKernel_50 : decode cX3_layKernel 50 = .ok (.aload_n 0, 1) := dk_42 (dk_at dksX3_layKernel_2 3 rfl rfl)
theorem dX3_layKernel_51 : decode cX3_layKernel 51 = .ok (.getfield 215, 3) := dk_180 0 215 (dk_at dksX3_layKernel_2 4 rfl rfl)
theorem dX3_layKernel_54 : decode cX3_layKernel 54 = .ok (.lconst 0, 1) := dk_9 (dk_at dksX3_layKernel_2 7 rfl rfl)
theorem dX3_layKernel_55 : decode cX3_layKernel 55 = .ok (.lcmp, 1) := dk_148 (dk_at dksX3_layKernel_2 8 rfl rfl)
theorem dX3_layKernel_56 : decode cX3_layKernel 56 = .ok (.ifCond .eq 42, 3) := dk_153 0 42 (dk_at dksX3_layKernel_2 9 rfl rfl)
theorem dX3_layKernel_59 : decode cX3_layKernel 59 = .ok (.aload_n 0, 1) := dk_42 (dk_at dksX3_layKernel_2 12 rfl rfl)
theorem dX3_layKernel_60 : decode cX3_layKernel 60 = .ok (.getfield 219, 3) := dk_180 0 219 (dk_at dksX3_layKernel_2 13 rfl rfl)
theorem dX3_layKernel_63 : decode cX3_layKernel 63 = .ok (.lconst 0, 1) := dk_9 (dk_at dksX3_layKernel_2 16 rfl rfl)
theorem dX3_layKernel_64 : decode cX3_layKernel 64 = .ok (.lcmp, 1) := dk_148 (dk_at dksX3_layKernel_2 17 rfl rfl)
theorem dX3_layKernel_65 : decode cX3_layKernel 65 = .ok (.ifCond .eq 33, 3) := dk_153 0 33 (dk_at dksX3_layKernel_2 18 rfl rfl)
theorem dX3_layKernel_68 : decode cX3_layKernel 68 = .ok (.aload_n 0, 1) := dk_42 (dk_at dksX3_layKernel_2 21 rfl rfl)
theorem dX3_layKernel_69 : decode cX3_layKernel 69 = .ok (.aload_n 0, 1) := dk_42 (dk_at dksX3_layKernel_2 22 rfl rfl)
theorem dX3_layKernel_70 : decode cX3_layKernel 70 = .ok (.getfield 50, 3) := dk_180 0 50 (dk_at dksX3_layKernel_3 0 rfl rfl)
theorem dX3_layKernel_73 : decode cX3_layKernel 73 = .ok (.aload_n 0, 1) := dk_42 (dk_at dksX3_layKernel_3 3 rfl rfl)
theorem dX3_layKernel_74 : decode cX3_layKernel 74 = .ok (.getfield 215, 3) := dk_180 0 215 (dk_at dksX3_layKernel_3 4 rfl rfl)
theorem dX3_layKernel_77 : decode cX3_layKernel 77 = .ok (.invokevirtual 222, 3) := dk_182 0 222 (dk_at dksX3_layKernel_3 7 rfl rfl)
theorem dX3_layKernel_80 : decode cX3_layKernel 80 = .ok (.ifCond .ne 18, 3) := dk_154 0 18 (dk_at dksX3_layKernel_3 10 rfl rfl)
theorem dX3_layKernel_83 : decode cX3_layKernel 83 = .ok (.aload_n 0, 1) := dk_42 (dk_at dksX3_layKernel_3 13 rfl rfl)
theorem dX3_layKernel_84 : decode cX3_layKernel 84 = .ok (.aload_n 0, 1) := dk_42 (dk_at dksX3_layKernel_3 14 rfl rfl)
theorem dX3_layKernel_85 : decode cX3_layKernel 85 = .ok (.getfield 53, 3) := dk_180 0 53 (dk_at dksX3_layKernel_3 15 rfl rfl)
theorem dX3_layKernel_88 : decode cX3_layKernel 88 = .ok (.aload_n 0, 1) := dk_42 (dk_at dksX3_layKernel_3 18 rfl rfl)
theorem dX3_layKernel_89 : decode cX3_layKernel 89 = .ok (.getfield 219, 3) := dk_180 0 219 (dk_at dksX3_layKernel_3 19 rfl rfl)
theorem dX3_layKernel_92 : decode cX3_layKernel 92 = .ok (.invokevirtual 222, 3) := dk_182 0 222 (dk_at dksX3_layKernel_4 0 rfl rfl)
theorem dX3_layKernel_95 : decode cX3_layKernel 95 = .ok (.ifCond .eq 5, 3) := dk_153 0 5 (dk_at dksX3_layKernel_4 3 rfl rfl)
theorem dX3_layKernel_98 : decode cX3_layKernel 98 = .ok (.iconst 0, 1) := dk_3 (dk_at dksX3_layKernel_4 6 rfl rfl)
theorem dX3_layKernel_99 : decode cX3_layKernel 99 = .ok (.ireturn, 1) := dk_172 (dk_at dksX3_layKernel_4 7 rfl rfl)
theorem dX3_layKernel_100 : decode cX3_layKernel 100 = .ok (.aload_n 0, 1) := dk_42 (dk_at dksX3_layKernel_4 8 rfl rfl)
theorem dX3_layKernel_101 : decode cX3_layKernel 101 = .ok (.iconst 1, 1) := dk_4 (dk_at dksX3_layKernel_4 9 rfl rfl)
theorem dX3_layKernel_102 : decode cX3_layKernel 102 = .ok (.aload_n 0, 1) := dk_42 (dk_at dksX3_layKernel_4 10 rfl rfl)
theorem dX3_layKernel_103 : decode cX3_layKernel 103 = .ok (.getfield 215, 3) := dk_180 0 215 (dk_at dksX3_layKernel_4 11 rfl rfl)
theorem dX3_layKernel_106 : decode cX3_layKernel 106 = .ok (.invokevirtual 226, 3) := dk_182 0 226 (dk_at dksX3_layKernel_4 14 rfl rfl)
theorem dX3_layKernel_109 : decode cX3_layKernel 109 = .ok (.ifCond .ne 19, 3) := dk_154 0 19 (dk_at dksX3_layKernel_4 17 rfl rfl)
theorem dX3_layKernel_112 : decode cX3_layKernel 112 = .ok (.aload_n 0, 1) := dk_42 (dk_at dksX3_layKernel_4 20 rfl rfl)
theorem dX3_layKernel_113 : decode cX3_layKernel 113 = .ok (.iconst 0, 1) := dk_3 (dk_at dksX3_layKernel_4 21 rfl rfl)
theorem dX3_layKernel_114 : decode cX3_layKernel 114 = .ok (.aload_n 0, 1) := dk_42 (dk_at dksX3_layKernel_4 22 rfl rfl)
theorem dX3_layKernel_115 : decode cX3_layKernel 115 = .ok (.getfield 219, 3) := dk_180 0 219 (dk_at dksX3_layKernel_5 0 rfl rfl)
theorem dX3_layKernel_118 : decode cX3_layKernel 118 = .ok (.invokevirtual 226, 3) := dk_182 0 226 (dk_at dksX3_layKernel_5 3 rfl rfl)
theorem dX3_layKernel_121 : decode cX3_layKernel 121 = .ok (.ifCond .ne 7, 3) := dk_154 0 7 (dk_at dksX3_layKernel_5 6 rfl rfl)
theorem dX3_layKernel_124 : decode cX3_layKernel 124 = .ok (.iconst 1, 1) := dk_4 (dk_at dksX3_layKernel_5 9 rfl rfl)
theorem dX3_layKernel_125 : decode cX3_layKernel 125 = .ok (.goto 4, 3) := dk_167 0 4 (dk_at dksX3_layKernel_5 10 rfl rfl)
theorem dX3_layKernel_128 : decode cX3_layKernel 128 = .ok (.iconst 0, 1) := dk_3 (dk_at dksX3_layKernel_5 13 rfl rfl)
theorem dX3_layKernel_129 : decode cX3_layKernel 129 = .ok (.ireturn, 1) := dk_172 (dk_at dksX3_layKernel_5 14 rfl rfl)
/-- PackingDuelModel.layKernel(II)Z -/
def zb200 (G : zPg) (C : zO) (args : List Value) (Q : zQ) (Y : zY) (σ : zS) : Prop := ∃ (a0 : Nat) (x1 : Int32) (x2 : Int32), args = [.ref a0, .int x1, .int x2] ∧ (zcl C 433 [.int x1] Y σ (zqI (fun v1 s2 => zput s2 G.1 (some a0) 4 15 (.int v1) (fun s4 => zgR s4 (some a0) 4 13 (fun v12 => zcl C 201 [va_rf v12, .int x1] Y s4 (zqV (fun s19 => zgR s19 (some a0) 4 14 (fun v21 => zcl C 201 [va_rf v21, .int x2] Y s19 (zqV (fun s28 => zgR s28 (some a0) 4 17 (fun v30 => zrc s28 (some a0) 4 (fun a39 => zcl C 202 [.ref a39, .int (1 : Int32), va_rf v30] Y s28 (zqL (fun v36 s37 => zput s37 G.1 (some a0) 4 19 (.long v36) (fun s43 => zgR s43 (some a0) 4 18 (fun v51 => zrc s43 (some a0) 4 (fun a60 => zcl C 202 [.ref a60, .int (0 : Int32), va_rf v51] Y s43 (zqL (fun v57 s58 => zput s58 G.1 (some a0) 4 20 (.long v57) (fun s64 => zgL s64 (some a0) 4 19 (fun v72 => zJ (fun  (s78 : zS) => zbool (0 : Int32) ∧ Q (some (.int (0 : Int32))) s78) (fun (j79 : zS → Prop) => (((lg_cmp v72 (0 : Int64)) = 0) → j79 s64) ∧ ((¬ (lg_cmp v72 (0 : Int64)) = 0) → zgL s64 (some a0) 4 20 (fun v81 => (((lg_cmp v81 (0 : Int64)) = 0) → j79 s64) ∧ ((¬ (lg_cmp v81 (0 : Int64)) = 0) → zgR s64 (some a0) 4 17 (fun v88 => zgL s64 (some a0) 4 19 (fun v94 => zrc s64 (some a0) 4 (fun a103 => zcl C 207 [.ref a103, va_rf v88, .long v94] Y s64 (zqI (fun v100 s101 => ((¬ v100 = 0) → j79 s101) ∧ ((v100 = 0) → zgR s101 (some a0) 4 18 (fun v108 => zgL s101 (some a0) 4 20 (fun v114 => zrc s101 (some a0) 4 (fun a123 => zcl C 207 [.ref a123, va_rf v108, .long v114] Y s101 (zqI (fun v120 s121 => ((v120 = 0) → zgL s121 (some a0) 4 19 (fun v128 => zrc s121 (some a0) 4 (fun a137 => zcl C 208 [.ref a137, .int (1 : Int32), .long v128] Y s121 (zqI (fun v134 s135 => zJ (fun (p141 : Int32) (s142 : zS) => zbool p141 ∧ Q (some (.int p141)) s142) (fun (j143 : Int32 → zS → Prop) => zJ (fun  (s144 : zS) => j143 (0 : Int32) s144) (fun (j145 : zS → Prop) => ((¬ v134 = 0) → j145 s135) ∧ ((v134 = 0) → zgL s135 (some a0) 4 20 (fun v147 => zrc s135 (some a0) 4 (fun a156 => zcl C 208 [.ref a156, .int (0 : Int32), .long v147] Y s135 (zqI (fun v153 s154 => ((¬ v153 = 0) → j145 s154) ∧ ((v153 = 0) → j143 (1 : Int32) s154))))))))))))) ∧ ((¬ v120 = 0) → j79 s121)))))))))))))))))))))))))))))))))))))
set_option maxHeartbeats 4000000 in
theorem wk200 {l : Launch} {g : zG} {d : Nat} {C : zO} (hG : zGk g) (hC : zSound l g d C) {args : List Value} {Q : zQ} {Y : zY} {σ : zS} (hw : zb200 (zpg g) C args Q Y σ) : zMet l g (d + 1) (⟨"PackingDuelModel", "layKernel", "(II)Z"⟩, Cond.code ⟨"PackingDuelModel", "layKernel", "(II)Z"⟩ prog_28_method_42_code 3 (Option.some FieldType.boolean)) args σ Q Y := by
  obtain ⟨a0, x1, x2, rfl, hw⟩ := hw
  refine zof hG (by decide +kernel) [false, false, false] ⟨rfl, rfl, rfl, trivial⟩ (Nat.le_of_ble_eq_true rfl) (ls := [some (va_rf (some a0)), some (.int x1), some (.int x2)]) rfl ?_
  intro X hX hR hTb hd1 hd2 hl hg hnm
  subst hl
  subst hg
  have hd : zDep X d := ⟨hd1, hd2⟩
  refine z_aload_n hX dX3_layKernel_0 rfl (i := 0) rfl ?_
  refine z_iload_n hX dX3_layKernel_1 rfl (i := 1) rfl ?_
  refine z_invS hX hd dX3_layKernel_2 (hC 433 _ zm433 _ _ _ _ hw) q2765 q531 zh24 q532 q154 zn433 rfl (Nat.le_of_ble_eq_true rfl) (st := [va_rf (some a0)]) rfl (zcs8 (Nat.le_of_ble_eq_true rfl)) rfl (zkI (fun v1 s2 hw => ?_)) (zout hX hR hTb)
  obtain ⟨a6, f7, r8, g9, m10, l11, hw⟩ := hw
  refine z_put hX zc4 (k := 15) dX3_layKernel_5 (Nat.le_of_ble_eq_true rfl) (zlk hX q2484) rfl rfl rfl r8 g9 m10 l11 (z_nm (fun s4 e5 => ?_))
  have hw := hw s4 e5
  refine z_aload_n hX dX3_layKernel_8 rfl (i := 0) rfl ?_
  obtain ⟨a13, f14, v12, r15, m16, e17, hw⟩ := hw
  refine z_get hX zc4 (k := 13) dX3_layKernel_9 (Nat.le_of_ble_eq_true rfl) (zlk hX q2482) r15 m16 e17 ?_
  refine z_iload_n hX dX3_layKernel_12 rfl (i := 1) rfl ?_
  refine z_invS hX hd dX3_layKernel_13 (hC 201 _ zm201 _ _ _ _ hw) q2770 q2771 zh7 q2772 q136 zn201 rfl (Nat.le_of_ble_eq_true rfl) (st := []) rfl (zcs8 (Nat.le_of_ble_eq_true rfl)) rfl (zkV (fun s19 hw => ?_)) (zout hX hR hTb)
  refine z_aload_n hX dX3_layKernel_16 rfl (i := 0) rfl ?_
  obtain ⟨a22, f23, v21, r24, m25, e26, hw⟩ := hw
  refine z_get hX zc4 (k := 14) dX3_layKernel_17 (Nat.le_of_ble_eq_true rfl) (zlk hX q2483) r24 m25 e26 ?_
  refine z_iload_n hX dX3_layKernel_20 rfl (i := 2) rfl ?_
  refine z_invS hX hd dX3_layKernel_21 (hC 201 _ zm201 _ _ _ _ hw) q2770 q2771 zh7 q2772 q136 zn201 rfl (Nat.le_of_ble_eq_true rfl) (st := []) rfl (zcs8 (Nat.le_of_ble_eq_true rfl)) rfl (zkV (fun s28 hw => ?_)) (zout hX hR hTb)
  refine z_aload_n hX dX3_layKernel_24 rfl (i := 0) rfl ?_
  refine z_aload_n hX dX3_layKernel_25 rfl (i := 0) rfl ?_
  refine z_iconst hX (v := (1 : Int32)) dX3_layKernel_26 (by decide) ?_
  refine z_aload_n hX dX3_layKernel_27 rfl (i := 0) rfl ?_
  obtain ⟨a31, f32, v30, r33, m34, e35, hw⟩ := hw
  refine z_get hX zc4 (k := 17) dX3_layKernel_28 (Nat.le_of_ble_eq_true rfl) (zlk hX q2486) r33 m34 e35 ?_
  obtain ⟨a39, f40, r41, m42, hw⟩ := hw
  refine z_invV hX hd r41 (ci := 4) rfl rfl m42 dX3_layKernel_31 (hC 202 _ zm202 _ _ _ _ hw) q2773 q2775 qs73 zh7 q2776 q136 zn202 rfl (Nat.le_of_ble_eq_true rfl) (st := [va_rf (some a0)]) rfl (zcs8 (Nat.le_of_ble_eq_true rfl)) rfl (zkL (fun v36 s37 hw => ?_)) (zout hX hR hTb)
  obtain ⟨a45, f46, r47, g48, m49, l50, hw⟩ := hw
  refine z_put hX zc4 (k := 19) dX3_layKernel_34 (Nat.le_of_ble_eq_true rfl) (zlk hX q2488) rfl rfl rfl r47 g48 m49 l50 (z_nm (fun s43 e44 => ?_))
  have hw := hw s43 e44
  refine z_aload_n hX dX3_layKernel_37 rfl (i := 0) rfl ?_
  refine z_aload_n hX dX3_layKernel_38 rfl (i := 0) rfl ?_
  refine z_iconst hX (v := (0 : Int32)) dX3_layKernel_39 (by decide) ?_
  refine z_aload_n hX dX3_layKernel_40 rfl (i := 0) rfl ?_
  obtain ⟨a52, f53, v51, r54, m55, e56, hw⟩ := hw
  refine z_get hX zc4 (k := 18) dX3_layKernel_41 (Nat.le_of_ble_eq_true rfl) (zlk hX q2487) r54 m55 e56 ?_
  obtain ⟨a60, f61, r62, m63, hw⟩ := hw
  refine z_invV hX hd r62 (ci := 4) rfl rfl m63 dX3_layKernel_44 (hC 202 _ zm202 _ _ _ _ hw) q2773 q2775 qs73 zh7 q2776 q136 zn202 rfl (Nat.le_of_ble_eq_true rfl) (st := [va_rf (some a0)]) rfl (zcs8 (Nat.le_of_ble_eq_true rfl)) rfl (zkL (fun v57 s58 hw => ?_)) (zout hX hR hTb)
  obtain ⟨a66, f67, r68, g69, m70, l71, hw⟩ := hw
  refine z_put hX zc4 (k := 20) dX3_layKernel_47 (Nat.le_of_ble_eq_true rfl) (zlk hX q2489) rfl rfl rfl r68 g69 m70 l71 (z_nm (fun s64 e65 => ?_))
  have hw := hw s64 e65
  refine z_aload_n hX dX3_layKernel_50 rfl (i := 0) rfl ?_
  obtain ⟨a73, f74, v72, r75, m76, e77, hw⟩ := hw
  refine z_get hX zc4 (k := 19) dX3_layKernel_51 (Nat.le_of_ble_eq_true rfl) (zlk hX q2488) r75 m76 e77 ?_
  refine z_lconst hX (v := (0 : Int64)) dX3_layKernel_54 (by decide) ?_
  refine z_lcmp hX dX3_layKernel_55 ?_
  refine zJ_w (P := fun (j : zS → Prop) => ∀  (s78 : zS), j  s78 → zW X s78 98 [none, none, none] []) hw (fun  s78 hw => ?_) (fun j79 hj79 hw => ?_)
  · refine z_iconst hX (v := (0 : Int32)) dX3_layKernel_98 (by decide) ?_
    exact z_ireturn hX hR dX3_layKernel_99 (zn_z hw.1) hw.2
  · refine z_if_eq hX dX3_layKernel_56 (tgt := 98) rfl (fun c80 => ?_) (fun c80 => ?_)
    · have hw := hw.1 c80
      refine z_sub (ls' := [none, none, none]) (zsN (zsN (zsN (zs0)))) ?_
      exact hj79  _ hw
    · have hw := hw.2 c80
      refine z_aload_n hX dX3_layKernel_59 rfl (i := 0) rfl ?_
      obtain ⟨a82, f83, v81, r84, m85, e86, hw⟩ := hw
      refine z_get hX zc4 (k := 20) dX3_layKernel_60 (Nat.le_of_ble_eq_true rfl) (zlk hX q2489) r84 m85 e86 ?_
      refine z_lconst hX (v := (0 : Int64)) dX3_layKernel_63 (by decide) ?_
      refine z_lcmp hX dX3_layKernel_64 ?_
      refine z_if_eq hX dX3_layKernel_65 (tgt := 98) rfl (fun c87 => ?_) (fun c87 => ?_)
      · have hw := hw.1 c87
        refine z_sub (ls' := [none, none, none]) (zsN (zsN (zsN (zs0)))) ?_
        exact hj79  _ hw
      · have hw := hw.2 c87
        refine z_aload_n hX dX3_layKernel_68 rfl (i := 0) rfl ?_
        refine z_aload_n hX dX3_layKernel_69 rfl (i := 0) rfl ?_
        obtain ⟨a89, f90, v88, r91, m92, e93, hw⟩ := hw
        refine z_get hX zc4 (k := 17) dX3_layKernel_70 (Nat.le_of_ble_eq_true rfl) (zlk hX q2486) r91 m92 e93 ?_
        refine z_aload_n hX dX3_layKernel_73 rfl (i := 0) rfl ?_
        obtain ⟨a95, f96, v94, r97, m98, e99, hw⟩ := hw
        refine z_get hX zc4 (k := 19) dX3_layKernel_74 (Nat.le_of_ble_eq_true rfl) (zlk hX q2488) r97 m98 e99 ?_
        obtain ⟨a103, f104, r105, m106, hw⟩ := hw
        refine z_invV hX hd r105 (ci := 4) rfl rfl m106 dX3_layKernel_77 (hC 207 _ zm207 _ _ _ _ hw) q2793 q2795 qs77 zh7 q2796 q136 zn207 rfl (Nat.le_of_ble_eq_true rfl) (st := []) rfl (zcs8 (Nat.le_of_ble_eq_true rfl)) rfl (zkI (fun v100 s101 hw => ?_)) (zout hX hR hTb)
        refine z_if_ne hX dX3_layKernel_80 (tgt := 98) rfl (fun c107 => ?_) (fun c107 => ?_)
        · have hw := hw.1 c107
          refine z_sub (ls' := [none, none, none]) (zsN (zsN (zsN (zs0)))) ?_
          exact hj79  _ hw
        · have hw := hw.2 c107
          refine z_aload_n hX dX3_layKernel_83 rfl (i := 0) rfl ?_
          refine z_aload_n hX dX3_layKernel_84 rfl (i := 0) rfl ?_
          obtain ⟨a109, f110, v108, r111, m112, e113, hw⟩ := hw
          refine z_get hX zc4 (k := 18) dX3_layKernel_85 (Nat.le_of_ble_eq_true rfl) (zlk hX q2487) r111 m112 e113 ?_
          refine z_aload_n hX dX3_layKernel_88 rfl (i := 0) rfl ?_
          obtain ⟨a115, f116, v114, r117, m118, e119, hw⟩ := hw
          refine z_get hX zc4 (k := 20) dX3_layKernel_89 (Nat.le_of_ble_eq_true rfl) (zlk hX q2489) r117 m118 e119 ?_
          obtain ⟨a123, f124, r125, m126, hw⟩ := hw
          refine z_invV hX hd r125 (ci := 4) rfl rfl m126 dX3_layKernel_92 (hC 207 _ zm207 _ _ _ _ hw) q2793 q2795 qs77 zh7 q2796 q136 zn207 rfl (Nat.le_of_ble_eq_true rfl) (st := []) rfl (zcs8 (Nat.le_of_ble_eq_true rfl)) rfl (zkI (fun v120 s121 hw => ?_)) (zout hX hR hTb)
          refine z_if_eq hX dX3_layKernel_95 (tgt := 100) rfl (fun c127 => ?_) (fun c127 => ?_)
          · have hw := hw.1 c127
            refine z_aload_n hX dX3_layKernel_100 rfl (i := 0) rfl ?_
            refine z_iconst hX (v := (1 : Int32)) dX3_layKernel_101 (by decide) ?_
            refine z_aload_n hX dX3_layKernel_102 rfl (i := 0) rfl ?_
            obtain ⟨a129, f130, v128, r131, m132, e133, hw⟩ := hw
            refine z_get hX zc4 (k := 19) dX3_layKernel_103 (Nat.le_of_ble_eq_true rfl) (zlk hX q2488) r131 m132 e133 ?_
            obtain ⟨a137, f138, r139, m140, hw⟩ := hw
            refine z_invV hX hd r139 (ci := 4) rfl rfl m140 dX3_layKernel_106 (hC 208 _ zm208 _ _ _ _ hw) q2797 q2799 qs78 zh7 q2800 q136 zn208 rfl (Nat.le_of_ble_eq_true rfl) (st := []) rfl (zcs8 (Nat.le_of_ble_eq_true rfl)) rfl (zkI (fun v134 s135 hw => ?_)) (zout hX hR hTb)
            refine zJ_w (P := fun (j : Int32 → zS → Prop) => ∀ (p141 : Int32) (s142 : zS), j p141 s142 → zW X s142 129 [none, none, none] [.int p141]) hw (fun p141 s142 hw => ?_) (fun j143 hj143 hw => ?_)
            · exact z_ireturn hX hR dX3_layKernel_129 (zn_z hw.1) hw.2
            · refine zJ_w (P := fun (j : zS → Prop) => ∀  (s144 : zS), j  s144 → zW X s144 128 [none, none, none] []) hw (fun  s144 hw => ?_) (fun j145 hj145 hw => ?_)
              · refine z_iconst hX (v := (0 : Int32)) dX3_layKernel_128 (by decide) ?_
                exact hj143 _ _ hw
              · refine z_if_ne hX dX3_layKernel_109 (tgt := 128) rfl (fun c146 => ?_) (fun c146 => ?_)
                · have hw := hw.1 c146
                  refine z_sub (ls' := [none, none, none]) (zsN (zsN (zsN (zs0)))) ?_
                  exact hj145  _ hw
                · have hw := hw.2 c146
                  refine z_aload_n hX dX3_layKernel_112 rfl (i := 0) rfl ?_
                  refine z_iconst hX (v := (0 : Int32)) dX3_layKernel_113 (by decide) ?_
                  refine z_aload_n hX dX3_layKernel_114 rfl (i := 0) rfl ?_
                  obtain ⟨a148, f149, v147, r150, m151, e152, hw⟩ := hw
                  refine z_get hX zc4 (k := 20) dX3_layKernel_115 (Nat.le_of_ble_eq_true rfl) (zlk hX q2489) r150 m151 e152 ?_
                  obtain ⟨a156, f157, r158, m159, hw⟩ := hw
                  refine z_invV hX hd r158 (ci := 4) rfl rfl m159 dX3_layKernel_118 (hC 208 _ zm208 _ _ _ _ hw) q2797 q2799 qs78 zh7 q2800 q136 zn208 rfl (Nat.le_of_ble_eq_true rfl) (st := []) rfl (zcs8 (Nat.le_of_ble_eq_true rfl)) rfl (zkI (fun v153 s154 hw => ?_)) (zout hX hR hTb)
                  refine z_if_ne hX dX3_layKernel_121 (tgt := 128) rfl (fun c160 => ?_) (fun c160 => ?_)
                  · have hw := hw.1 c160
                    refine z_sub (ls' := [none, none, none]) (zsN (zsN (zsN (zs0)))) ?_
                    exact hj145  _ hw
                  · have hw := hw.2 c160
                    refine z_iconst hX (v := (1 : Int32)) dX3_layKernel_124 (by decide) ?_
                    refine z_goto hX dX3_layKernel_125 (tgt := 129) rfl ?_
                    refine z_sub (ls' := [none, none, none]) (zsN (zsN (zsN (zs0)))) ?_
                    exact hj143 _ _ hw
          · have hw := hw.2 c127
            refine z_sub (ls' := [none, none, none]) (zsN (zsN (zsN (zs0)))) ?_
            exact hj79  _ hw
abbrev cX3_layMembers : ByteArray := prog_28_method_33_code
def yX3_layMembers : MethodName := ⟨RX3, "layMembers", "([II)V"⟩
def dkwX3_layMembers_1 : List UInt8 := [132, 2, 1, 132, 3, 1, 167, 255, 232, 177]
abbrev dktX3_layMembers_1 : List UInt8 := dkwX3_layMembers_1 ++ []
def dkwX3_layMembers_0 : List UInt8 := [3, 61, 3, 62, 29, 8, 162, 0, 25, 27, 29, 122, 4, 126, 4, 160, 0, 10, 42, 28, 29, 79]
abbrev dktX3_layMembers_0 : List UInt8 := dkwX3_layMembers_0 ++ dktX3_layMembers_1
theorem dksX3_layMembers_0 : cX3_layMembers.data.toList.drop 0 = dktX3_layMembers_0 := by decide +kernel
theorem dksX3_layMembers_1 : cX3_layMembers.data.toList.drop 22 = dktX3_layMembers_1 := dk_seg dksX3_layMembers_0 22 rfl rfl
theorem dX3_layMembers_0 : decode cX3_layMembers 0 = .ok (.iconst 0, 1) := dk_3 (dk_at dksX3_layMembers_0 0 rfl rfl)
theorem dX3_layMembers_1 : decode cX3_layMembers 1 = .ok (.istore_n 2, 1) := dk_61 (dk_at dksX3_layMembers_0 1 rfl rfl)
theorem dX3_layMembers_2 : decode cX3_layMembers 2 = .ok (.iconst 0, 1) := dk_3 (dk_at dksX3_layMembers_0 2 rfl rfl)
theorem dX3_layMembers_3 : decode cX3_layMembers 3 = .ok (.istore_n 3, 1) := dk_62 (dk_at dksX3_layMembers_0 3 rfl rfl)
theorem dX3_layMembers_4 : decode cX3_layMembers 4 = .ok (.iload_n 3, 1) := dk_29 (dk_at dksX3_layMembers_0 4 rfl rfl)
theorem dX3_layMembers_5 : decode cX3_layMembers 5 = .ok (.iconst 5, 1) := dk_8 (dk_at dksX3_layMembers_0 5 rfl rfl)
theorem dX3_layMembers_6 : decode cX3_layMembers 6 = .ok (.if_icmp .ge 25, 3) := dk_162 0 25 (dk_at dksX3_layMembers_0 6 rfl rfl)
theorem dX3_layMembers_9 : decode cX3_layMembers 9 = .ok (.iload_n 1, 1) := dk_27 (dk_at dksX3_layMembers_0 9 rfl rfl)
theorem dX3_layMembers_10 : decode cX3_layMembers 10 = .ok (.iload_n 3, 1) := dk_29 (dk_at dksX3_layMembers_0 10 rfl rfl)
theorem dX3_layMembers_11 : decode cX3_layMembers 11 = .ok (.ishr, 1) := dk_122 (dk_at dksX3_layMembers_0 11 rfl rfl)
theorem dX3_layMembers_12 : decode cX3_layMembers 12 = .ok (.iconst 1, 1) := dk_4 (dk_at dksX3_layMembers_0 12 rfl rfl)
theorem dX3_layMembers_13 : decode cX3_layMembers 13 = .ok (.iand, 1) := dk_126 (dk_at dksX3_layMembers_0 13 rfl rfl)
theorem dX3_layMembers_14 : decode cX3_layMembers 14 = .ok (.iconst 1, 1) := dk_4 (dk_at dksX3_layMembers_0 14 rfl rfl)
theorem dX3_layMembers_15 : decode cX3_layMembers 15 = .ok (.if_icmp .ne 10, 3) := dk_160 0 10 (dk_at dksX3_layMembers_0 15 rfl rfl)
theorem dX3_layMembers_18 : decode cX3_layMembers 18 = .ok (.aload_n 0, 1) := dk_42 (dk_at dksX3_layMembers_0 18 rfl rfl)
theorem dX3_layMembers_19 : decode cX3_layMembers 19 = .ok (.iload_n 2, 1) := dk_28 (dk_at dksX3_layMembers_0 19 rfl rfl)
theorem dX3_layMembers_20 : decode cX3_layMembers 20 = .ok (.iload_n 3, 1) := dk_29 (dk_at dksX3_layMembers_0 20 rfl rfl)
theorem dX3_layMembers_21 : decode cX3_layMembers 21 = .ok (.iastore, 1) := dk_79 (dk_at dksX3_layMembers_0 21 rfl rfl)
theorem dX3_layMembers_22 : decode cX3_layMembers 22 = .ok (.iinc 2 1, 3) := dk_132 2 1 (dk_at dksX3_layMembers_1 0 rfl rfl)
theorem dX3_layMembers_25 : decode cX3_layMembers 25 = .ok (.iinc 3 1, 3) := dk_132 3 1 (dk_at dksX3_layMembers_1 3 rfl rfl)
theorem dX3_layMembers_28 : decode cX3_layMembers 28 = .ok (.goto (-24), 3) := dk_167 255 232 (dk_at dksX3_layMembers_1 6 rfl rfl)
theorem dX3_layMembers_31 : decode cX3_layMembers 31 = .ok (.return_, 1) := dk_177 (dk_at dksX3_layMembers_1 9 rfl rfl)
/-- PackingDuelModel.layMembers([II)V -/
def zb201 (G : zPg) (C : zO) (args : List Value) (Q : zQ) (Y : zY) (σ : zS) : Prop := ∃ (x1 : Option Nat) (x2 : Int32), args = [va_rf x1, .int x2] ∧ (∃ n, zIt (fun _ _ _ => False) (fun rec4 (p1 : Int32) (p2 : Int32) (s3 : zS) => (((5 : Int32) ≤ p2) → Q none s3) ∧ ((¬ (5 : Int32) ≤ p2) → zJ (fun (p6 : Int32) (s7 : zS) => (∀ v9 : Int32, v9 = p2 + (1 : Int32) → rec4 p6 v9 s7)) (fun (j8 : Int32 → zS → Prop) => ((¬ ((x2 >>> (p2 &&& 31)) &&& (1 : Int32)) = (1 : Int32)) → j8 p1 s3) ∧ ((((x2 >>> (p2 &&& 31)) &&& (1 : Int32)) = (1 : Int32)) → zsI s3 G.1 0 x1 p1 p2 (fun s19 => (∀ v21 : Int32, v21 = p1 + (1 : Int32) → j8 v21 s19)))))) n (0 : Int32) (0 : Int32) σ)
set_option maxHeartbeats 4000000 in
theorem wk201 {l : Launch} {g : zG} {d : Nat} {C : zO} (hG : zGk g) (hC : zSound l g d C) {args : List Value} {Q : zQ} {Y : zY} {σ : zS} (hw : zb201 (zpg g) C args Q Y σ) : zMet l g (d + 1) (⟨"PackingDuelModel", "layMembers", "([II)V"⟩, Cond.code ⟨"PackingDuelModel", "layMembers", "([II)V"⟩ prog_28_method_33_code 4 (Option.none : Option FieldType)) args σ Q Y := by
  obtain ⟨x1, x2, rfl, hw⟩ := hw
  refine zof hG (by decide +kernel) [false, false] ⟨(zc_rf _), rfl, trivial⟩ (Nat.le_of_ble_eq_true rfl) (ls := [some (va_rf x1), some (.int x2), none, none]) rfl ?_
  intro X hX hR hTb hd1 hd2 hl hg hnm
  subst hl
  subst hg
  have hd : zDep X d := ⟨hd1, hd2⟩
  refine z_iconst hX (v := (0 : Int32)) dX3_layMembers_0 (by decide) ?_
  refine z_istore_n hX dX3_layMembers_1 rfl (i := 2) (Nat.le_of_ble_eq_true rfl) rfl (ls2 := [some (va_rf x1), some (.int x2), some (.int (0 : Int32)), none]) rfl ?_
  refine z_iconst hX (v := (0 : Int32)) dX3_layMembers_2 (by decide) ?_
  refine z_istore_n hX dX3_layMembers_3 rfl (i := 3) (Nat.le_of_ble_eq_true rfl) rfl (ls2 := [some (va_rf x1), some (.int x2), some (.int (0 : Int32)), some (.int (0 : Int32))]) rfl ?_
  obtain ⟨n23, hw⟩ := hw
  refine zIt_w (P := fun (j : Int32 → Int32 → zS → Prop) => ∀ (p1 : Int32) (p2 : Int32) (s3 : zS), j p1 p2 s3 → zW X s3 4 [some (va_rf x1), some (.int x2), some (.int p1), some (.int p2)] []) (fun _ _ _ h => h.elim) (fun rec4 hrec4 p1 p2 s3 hw => ?_) n23 _ _ _ hw
  refine z_iload_n hX dX3_layMembers_4 rfl (i := 3) rfl ?_
  refine z_iconst hX (v := (5 : Int32)) dX3_layMembers_5 (by decide) ?_
  refine z_icmp_ge hX dX3_layMembers_6 (tgt := 31) rfl (fun c5 => ?_) (fun c5 => ?_)
  · have hw := hw.1 c5
    exact z_return hX hR dX3_layMembers_31 hw
  · have hw := hw.2 c5
    refine z_iload_n hX dX3_layMembers_9 rfl (i := 1) rfl ?_
    refine z_iload_n hX dX3_layMembers_10 rfl (i := 3) rfl ?_
    refine z_ishr hX dX3_layMembers_11 ?_
    refine z_iconst hX (v := (1 : Int32)) dX3_layMembers_12 (by decide) ?_
    refine z_iand hX dX3_layMembers_13 ?_
    refine z_iconst hX (v := (1 : Int32)) dX3_layMembers_14 (by decide) ?_
    refine zJ_w (P := fun (j : Int32 → zS → Prop) => ∀ (p6 : Int32) (s7 : zS), j p6 s7 → zW X s7 25 [some (va_rf x1), some (.int x2), some (.int p6), some (.int p2)] []) hw (fun p6 s7 hw => ?_) (fun j8 hj8 hw => ?_)
    · obtain ⟨v9, e10⟩ : ∃ y : Int32, y = p2 + (1 : Int32) := ⟨_, rfl⟩
      refine z_iinc hX dX3_layMembers_25 (i := 3) (v := v9) rfl (by rw [e10]; rfl) (Nat.le_of_ble_eq_true rfl) rfl (ls2 := [some (va_rf x1), some (.int x2), some (.int p6), some (.int v9)]) rfl ?_
      have hw := hw v9 e10
      refine z_goto hX dX3_layMembers_28 (tgt := 4) rfl ?_
      exact hrec4 _ _ _ hw
    · refine z_icmp_ne hX dX3_layMembers_15 (tgt := 25) rfl (fun c11 => ?_) (fun c11 => ?_)
      · have hw := hw.1 c11
        exact hj8 _ _ hw
      · have hw := hw.2 c11
        refine z_aload_n hX dX3_layMembers_18 rfl (i := 0) rfl ?_
        refine z_iload_n hX dX3_layMembers_19 rfl (i := 2) rfl ?_
        refine z_iload_n hX dX3_layMembers_20 rfl (i := 3) rfl ?_
        obtain ⟨a12, n13, f14, r15, g16, m17, i18, hw⟩ := hw
        refine z_iast hX dX3_layMembers_21 r15 g16 m17 i18 (z_nm (fun s19 e20 => ?_))
        have hw := hw s19 e20
        obtain ⟨v21, e22⟩ : ∃ y : Int32, y = p1 + (1 : Int32) := ⟨_, rfl⟩
        refine z_iinc hX dX3_layMembers_22 (i := 2) (v := v21) rfl (by rw [e22]; rfl) (Nat.le_of_ble_eq_true rfl) rfl (ls2 := [some (va_rf x1), some (.int x2), some (.int v21), some (.int p2)]) rfl ?_
        have hw := hw v21 e22
        exact hj8 _ _ hw
