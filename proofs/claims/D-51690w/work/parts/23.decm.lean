/-! MC: decode rows (of claim/names) -/
set_option maxRecDepth 100000
abbrev cX9_init : ByteArray := prog_16_method_1_code
def yX9_init : MethodName := ⟨RX9, "<init>", "()V"⟩
def dkwX9_init_9 : List UInt8 := [182, 0, 66, 177]
abbrev dktX9_init_9 : List UInt8 := dkwX9_init_9 ++ []
def dkwX9_init_8 : List UInt8 := [16, 19, 182, 0, 62, 42, 16, 15, 3, 182, 0, 66, 42, 16, 16, 16, 9, 182, 0, 66, 42, 16, 19, 8]
abbrev dktX9_init_8 : List UInt8 := dkwX9_init_8 ++ dktX9_init_9
def dkwX9_init_7 : List UInt8 := [16, 10, 4, 7, 3, 182, 0, 59, 42, 7, 6, 8, 4, 182, 0, 59, 42, 16, 15, 182, 0, 62, 42]
abbrev dktX9_init_7 : List UInt8 := dkwX9_init_7 ++ dktX9_init_8
def dkwX9_init_6 : List UInt8 := [16, 22, 4, 79, 42, 16, 12, 4, 5, 4, 182, 0, 55, 42, 6, 3, 16, 9, 7, 182, 0, 55, 42]
abbrev dktX9_init_6 : List UInt8 := dkwX9_init_6 ++ dktX9_init_7
def dkwX9_init_5 : List UInt8 := [180, 0, 7, 3, 8, 79, 42, 180, 0, 7, 4, 7, 79, 42, 180, 0, 7, 5, 5, 79, 42, 180, 0, 7]
abbrev dktX9_init_5 : List UInt8 := dkwX9_init_5 ++ dktX9_init_6
def dkwX9_init_4 : List UInt8 := [16, 81, 188, 4, 181, 0, 46, 42, 16, 81, 188, 4, 181, 0, 49, 42, 16, 9, 188, 8, 181, 0, 52, 42]
abbrev dktX9_init_4 : List UInt8 := dkwX9_init_4 ++ dktX9_init_5
def dkwX9_init_3 : List UInt8 := [181, 0, 32, 42, 2, 181, 0, 36, 42, 16, 124, 188, 10, 181, 0, 40, 42, 6, 188, 10, 181, 0, 43, 42]
abbrev dktX9_init_3 : List UInt8 := dkwX9_init_3 ++ dktX9_init_4
def dkwX9_init_2 : List UInt8 := [42, 16, 9, 188, 10, 181, 0, 26, 42, 16, 81, 188, 4, 181, 0, 29, 42, 17, 1, 244, 188, 8]
abbrev dktX9_init_2 : List UInt8 := dkwX9_init_2 ++ dktX9_init_3
def dkwX9_init_1 : List UInt8 := [17, 5, 16, 188, 10, 181, 0, 16, 42, 17, 1, 176, 188, 10, 181, 0, 19, 42, 5, 188, 4, 181, 0, 22]
abbrev dktX9_init_1 : List UInt8 := dkwX9_init_1 ++ dktX9_init_2
def dkwX9_init_0 : List UInt8 := [42, 183, 0, 1, 42, 17, 0, 216, 188, 10, 181, 0, 7, 42, 17, 0, 216, 188, 10, 181, 0, 13, 42]
abbrev dktX9_init_0 : List UInt8 := dkwX9_init_0 ++ dktX9_init_1
theorem dksX9_init_0 : cX9_init.data.toList.drop 0 = dktX9_init_0 := by decide +kernel
theorem dksX9_init_1 : cX9_init.data.toList.drop 23 = dktX9_init_1 := dk_seg dksX9_init_0 23 rfl rfl
theorem dksX9_init_2 : cX9_init.data.toList.drop 47 = dktX9_init_2 := dk_seg dksX9_init_1 24 rfl rfl
theorem dksX9_init_3 : cX9_init.data.toList.drop 69 = dktX9_init_3 := dk_seg dksX9_init_2 22 rfl rfl
theorem dksX9_init_4 : cX9_init.data.toList.drop 93 = dktX9_init_4 := dk_seg dksX9_init_3 24 rfl rfl
theorem dksX9_init_5 : cX9_init.data.toList.drop 117 = dktX9_init_5 := dk_seg dksX9_init_4 24 rfl rfl
theorem dksX9_init_6 : cX9_init.data.toList.drop 141 = dktX9_init_6 := dk_seg dksX9_init_5 24 rfl rfl
theorem dksX9_init_7 : cX9_init.data.toList.drop 164 = dktX9_init_7 := dk_seg dksX9_init_6 23 rfl rfl
theorem dksX9_init_8 : cX9_init.data.toList.drop 187 = dktX9_init_8 := dk_seg dksX9_init_7 23 rfl rfl
theorem dksX9_init_9 : cX9_init.data.toList.drop 211 = dktX9_init_9 := dk_seg dksX9_init_8 24 rfl rfl
theorem dX9_init_0 : decode cX9_init 0 = .ok (.aload_n 0, 1) := dk_42 (dk_at dksX9_init_0 0 rfl rfl)
theorem dX9_init_1 : decode cX9_init 1 = .ok (.invokespecial 1, 3) := dk_183 0 1 (dk_at dksX9_init_0 1 rfl rfl)
theorem dX9_init_4 : decode cX9_init 4 = .ok (.aload_n 0, 1) := dk_42 (dk_at dksX9_init_0 4 rfl rfl)
theorem dX9_init_5 : decode cX9_init 5 = .ok (.sipush 216, 3) := dk_17 0 216 (dk_at dksX9_init_0 5 rfl rfl)
theorem dX9_init_8 : decode cX9_init 8 = .ok (.newarray .int, 2) := dk_188_10 (dk_at dksX9_init_0 8 rfl rfl)
theorem dX9_init_10 : decode cX9_init 10 = .ok (.putfield 7, 3) := dk_181 0 7 (dk_at dksX9_init_0 10 rfl rfl)
theorem dX9_init_13 : decode cX9_init 13 = .ok (.aload_n 0, 1) := dk_42 (dk_at dksX9_init_0 13 rfl rfl)
theorem dX9_init_14 : decode cX9_init 14 = .ok (.sipush 216, 3) := dk_17 0 216 (dk_at dksX9_init_0 14 rfl rfl)
theorem dX9_init_17 : decode cX9_init 17 = .ok (.newarray .int, 2) := dk_188_10 (dk_at dksX9_init_0 17 rfl rfl)
theorem dX9_init_19 : decode cX9_init 19 = .ok (.putfield 13, 3) := dk_181 0 13 (dk_at dksX9_init_0 19 rfl rfl)
theorem dX9_init_22 : decode cX9_init 22 = .ok (.aload_n 0, 1) := dk_42 (dk_at dksX9_init_0 22 rfl rfl)
theorem dX9_init_23 : decode cX9_init 23 = .ok (.sipush 1296, 3) := dk_17 5 16 (dk_at dksX9_init_1 0 rfl rfl)
theorem dX9_init_26 : decode cX9_init 26 = .ok (.newarray .int, 2) := dk_188_10 (dk_at dksX9_init_1 3 rfl rfl)
theorem dX9_init_28 : decode cX9_init 28 = .ok (.putfield 16, 3) := dk_181 0 16 (dk_at dksX9_init_1 5 rfl rfl)
theorem dX9_init_31 : decode cX9_init 31 = .ok (.aload_n 0, 1) := dk_42 (dk_at dksX9_init_1 8 rfl rfl)
theorem dX9_init_32 : decode cX9_init 32 = .ok (.sipush 432, 3) := dk_17 1 176 (dk_at dksX9_init_1 9 rfl rfl)
theorem dX9_init_35 : decode cX9_init 35 = .ok (.newarray .int, 2) := dk_188_10 (dk_at dksX9_init_1 12 rfl rfl)
theorem dX9_init_37 : decode cX9_init 37 = .ok (.putfield 19, 3) := dk_181 0 19 (dk_at dksX9_init_1 14 rfl rfl)
theorem dX9_init_40 : decode cX9_init 40 = .ok (.aload_n 0, 1) := dk_42 (dk_at dksX9_init_1 17 rfl rfl)
theorem dX9_init_41 : decode cX9_init 41 = .ok (.iconst 2, 1) := dk_5 (dk_at dksX9_init_1 18 rfl rfl)
theorem dX9_init_42 : decode cX9_init 42 = .ok (.newarray .boolean, 2) := dk_188_4 (dk_at dksX9_init_1 19 rfl rfl)
theorem dX9_init_44 : decode cX9_init 44 = .ok (.putfield 22, 3) := dk_181 0 22 (dk_at dksX9_init_1 21 rfl rfl)
theorem dX9_init_47 : decode cX9_init 47 = .ok (.aload_n 0, 1) := dk_42 (dk_at dksX9_init_2 0 rfl rfl)
theorem dX9_init_48 : decode cX9_init 48 = .ok (.bipush 9, 2) := dk_16 9 (dk_at dksX9_init_2 1 rfl rfl)
theorem dX9_init_50 : decode cX9_init 50 = .ok (.newarray .int, 2) := dk_188_10 (dk_at dksX9_init_2 3 rfl rfl)
theorem dX9_init_52 : decode cX9_init 52 = .ok (.putfield 26, 3) := dk_181 0 26 (dk_at dksX9_init_2 5 rfl rfl)
theorem dX9_init_55 : decode cX9_init 55 = .ok (.aload_n 0, 1) := dk_42 (dk_at dksX9_init_2 8 rfl rfl)
theorem dX9_init_56 : decode cX9_init 56 = .ok (.bipush 81, 2) := dk_16 81 (dk_at dksX9_init_2 9 rfl rfl)
theorem dX9_init_58 : decode cX9_init 58 = .ok (.newarray .boolean, 2) := dk_188_4 (dk_at dksX9_init_2 11 rfl rfl)
theorem dX9_init_60 : decode cX9_init 60 = .ok (.putfield 29, 3) := dk_181 0 29 (dk_at dksX9_init_2 13 rfl rfl)
theorem dX9_init_63 : decode cX9_init 63 = .ok (.aload_n 0, 1) := dk_42 (dk_at dksX9_init_2 16 rfl rfl)
theorem dX9_init_64 : decode cX9_init 64 = .ok (.sipush 500, 3) := dk_17 1 244 (dk_at dksX9_init_2 17 rfl rfl)
theorem dX9_init_67 : decode cX9_init 67 = .ok (.newarray .byte, 2) := dk_188_8 (dk_at dksX9_init_2 20 rfl rfl)
theorem dX9_init_69 : decode cX9_init 69 = .ok (.putfield 32, 3) := dk_181 0 32 (dk_at dksX9_init_3 0 rfl rfl)
theorem dX9_init_72 : decode cX9_init 72 = .ok (.aload_n 0, 1) := dk_42 (dk_at dksX9_init_3 3 rfl rfl)
theorem dX9_init_73 : decode cX9_init 73 = .ok (.iconst (-1), 1) := dk_2 (dk_at dksX9_init_3 4 rfl rfl)
theorem dX9_init_74 : decode cX9_init 74 = .ok (.putfield 36, 3) := dk_181 0 36 (dk_at dksX9_init_3 5 rfl rfl)
theorem dX9_init_77 : decode cX9_init 77 = .ok (.aload_n 0, 1) := dk_42 (dk_at dksX9_init_3 8 rfl rfl)
theorem dX9_init_78 : decode cX9_init 78 = .ok (.bipush 124, 2) := dk_16 124 (dk_at dksX9_init_3 9 rfl rfl)
theorem dX9_init_80 : decode cX9_init 80 = .ok (.newarray .int, 2) := dk_188_10 (dk_at dksX9_init_3 11 rfl rfl)
theorem dX9_init_82 : decode cX9_init 82 = .ok (.putfield 40, 3) := dk_181 0 40 (dk_at dksX9_init_3 13 rfl rfl)
theorem dX9_init_85 : decode cX9_init 85 = .ok (.aload_n 0, 1) := dk_42 (dk_at dksX9_init_3 16 rfl rfl)
theorem dX9_init_86 : decode cX9_init 86 = .ok (.iconst 3, 1) := dk_6 (dk_at dksX9_init_3 17 rfl rfl)
theorem dX9_init_87 : decode cX9_init 87 = .ok (.newarray .int, 2) := dk_188_10 (dk_at dksX9_init_3 18 rfl rfl)
theorem dX9_init_89 : decode cX9_init 89 = .ok (.putfield 43, 3) := dk_181 0 43 (dk_at dksX9_init_3 20 rfl rfl)
theorem dX9_init_92 : decode cX9_init 92 = .ok (.aload_n 0, 1) := dk_42 (dk_at dksX9_init_3 23 rfl rfl)
theorem dX9_init_93 : decode cX9_init 93 = .ok (.bipush 81, 2) := dk_16 81 (dk_at dksX9_init_4 0 rfl rfl)
theorem dX9_init_95 : decode cX9_init 95 = .ok (.newarray .boolean, 2) := dk_188_4 (dk_at dksX9_init_4 2 rfl rfl)
theorem dX9_init_97 : decode cX9_init 97 = .ok (.putfield 46, 3) := dk_181 0 46 (dk_at dksX9_init_4 4 rfl rfl)
theorem dX9_init_100 : decode cX9_init 100 = .ok (.aload_n 0, 1) := dk_42 (dk_at dksX9_init_4 7 rfl rfl)
theorem dX9_init_101 : decode cX9_init 101 = .ok (.bipush 81, 2) := dk_16 81 (dk_at dksX9_init_4 8 rfl rfl)
theorem dX9_init_103 : decode cX9_init 103 = .ok (.newarray .boolean, 2) := dk_188_4 (dk_at dksX9_init_4 10 rfl rfl)
theorem dX9_init_105 : decode cX9_init 105 = .ok (.putfield 49, 3) := dk_181 0 49 (dk_at dksX9_init_4 12 rfl rfl)
theorem dX9_init_108 : decode cX9_init 108 = .ok (.aload_n 0, 1) := dk_42 (dk_at dksX9_init_4 15 rfl rfl)
theorem dX9_init_109 : decode cX9_init 109 = .ok (.bipush 9, 2) := dk_16 9 (dk_at dksX9_init_4 16 rfl rfl)
theorem dX9_init_111 : decode cX9_init 111 = .ok (.newarray .byte, 2) := dk_188_8 (dk_at dksX9_init_4 18 rfl rfl)
theorem dX9_init_113 : decode cX9_init 113 = .ok (.putfield 52, 3) := dk_181 0 52 (dk_at dksX9_init_4 20 rfl rfl)
theorem dX9_init_116 : decode cX9_init 116 = .ok (.aload_n 0, 1) := dk_42 (dk_at dksX9_init_4 23 rfl rfl)
theorem dX9_init_117 : decode cX9_init 117 = .ok (.getfield 7, 3) := dk_180 0 7 (dk_at dksX9_init_5 0 rfl rfl)
theorem dX9_init_120 : decode cX9_init 120 = .ok (.iconst 0, 1) := dk_3 (dk_at dksX9_init_5 3 rfl rfl)
theorem dX9_init_121 : decode cX9_init 121 = .ok (.iconst 5, 1) := dk_8 (dk_at dksX9_init_5 4 rfl rfl)
theorem dX9_init_122 : decode cX9_init 122 = .ok (.iastore, 1) := dk_79 (dk_at dksX9_init_5 5 rfl rfl)
theorem dX9_init_123 : decode cX9_init 123 = .ok (.aload_n 0, 1) := dk_42 (dk_at dksX9_init_5 6 rfl rfl)
theorem dX9_init_124 : decode cX9_init 124 = .ok (.getfield 7, 3) := dk_180 0 7 (dk_at dksX9_init_5 7 rfl rfl)
theorem dX9_init_127 : decode cX9_init 127 = .ok (.iconst 1, 1) := dk_4 (dk_at dksX9_init_5 10 rfl rfl)
theorem dX9_init_128 : decode cX9_init 128 = .ok (.iconst 4, 1) := dk_7 (dk_at dksX9_init_5 11 rfl rfl)
theorem dX9_init_129 : decode cX9_init 129 = .ok (.iastore, 1) := dk_79 (dk_at dksX9_init_5 12 rfl rfl)
theorem dX9_init_130 : decode cX9_init 130 = .ok (.aload_n 0, 1) := dk_42 (dk_at dksX9_init_5 13 rfl rfl)
theorem dX9_init_131 : decode cX9_init 131 = .ok (.getfield 7, 3) := dk_180 0 7 (dk_at dksX9_init_5 14 rfl rfl)
theorem dX9_init_134 : decode cX9_init 134 = .ok (.iconst 2, 1) := dk_5 (dk_at dksX9_init_5 17 rfl rfl)
theorem dX9_init_135 : decode cX9_init 135 = .ok (.iconst 2, 1) := dk_5 (dk_at dksX9_init_5 18 rfl rfl)
theorem dX9_init_136 : decode cX9_init 136 = .ok (.iastore, 1) := dk_79 (dk_at dksX9_init_5 19 rfl rfl)
theorem dX9_init_137 : decode cX9_init 137 = .ok (.aload_n 0, 1) := dk_42 (dk_at dksX9_init_5 20 rfl rfl)
theorem dX9_init_138 : decode cX9_init 138 = .ok (.getfield 7, 3) := dk_180 0 7 (dk_at dksX9_init_5 21 rfl rfl)
theorem dX9_init_141 : decode cX9_init 141 = .ok (.bipush 22, 2) := dk_16 22 (dk_at dksX9_init_6 0 rfl rfl)
theorem dX9_init_143 : decode cX9_init 143 = .ok (.iconst 1, 1) := dk_4 (dk_at dksX9_init_6 2 rfl rfl)
theorem dX9_init_144 : decode cX9_init 144 = .ok (.iastore, 1) := dk_79 (dk_at dksX9_init_6 3 rfl rfl)
theorem dX9_init_145 : decode cX9_init 145 = .ok (.aload_n 0, 1) := dk_42 (dk_at dksX9_init_6 4 rfl rfl)
theorem dX9_init_146 : decode cX9_init 146 = .ok (.bipush 12, 2) := dk_16 12 (dk_at dksX9_init_6 5 rfl rfl)
theorem dX9_init_148 : decode cX9_init 148 = .ok (.iconst 1, 1) := dk_4 (dk_at dksX9_init_6 7 rfl rfl)
theorem dX9_init_149 : decode cX9_init 149 = .ok (.iconst 2, 1) := dk_5 (dk_at dksX9_init_6 8 rfl rfl)
theorem dX9_init_150 : decode cX9_init 150 = .ok (.iconst 1, 1) := dk_4 (dk_at dksX9_init_6 9 rfl rfl)
theorem dX9_init_151 : decode cX9_init 151 = .ok (.invokevirtual 55, 3) := dk_182 0 55 (dk_at dksX9_init_6 10 rfl rfl)
theorem dX9_init_154 : decode cX9_init 154 = .ok (.aload_n 0, 1) := dk_42 (dk_at dksX9_init_6 13 rfl rfl)
theorem dX9_init_155 : decode cX9_init 155 = .ok (.iconst 3, 1) := dk_6 (dk_at dksX9_init_6 14 rfl rfl)
theorem dX9_init_156 : decode cX9_init 156 = .ok (.iconst 0, 1) := dk_3 (dk_at dksX9_init_6 15 rfl rfl)
theorem dX9_init_157 : decode cX9_init 157 = .ok (.bipush 9, 2) := dk_16 9 (dk_at dksX9_init_6 16 rfl rfl)
theorem dX9_init_159 : decode cX9_init 159 = .ok (.iconst 4, 1) := dk_7 (dk_at dksX9_init_6 18 rfl rfl)
theorem dX9_init_160 : decode cX9_init 160 = .ok (.invokevirtual 55, 3) := dk_182 0 55 (dk_at dksX9_init_6 19 rfl rfl)
theorem dX9_init_163 : decode cX9_init 163 = .ok (.aload_n 0, 1) := dk_42 (dk_at dksX9_init_6 22 rfl rfl)
theorem dX9_init_164 : decode cX9_init 164 = .ok (.bipush 10, 2) := dk_16 10 (dk_at dksX9_init_7 0 rfl rfl)
theorem dX9_init_166 : decode cX9_init 166 = .ok (.iconst 1, 1) := dk_4 (dk_at dksX9_init_7 2 rfl rfl)
theorem dX9_init_167 : decode cX9_init 167 = .ok (.iconst 4, 1) := dk_7 (dk_at dksX9_init_7 3 rfl rfl)
theorem dX9_init_168 : decode cX9_init 168 = .ok (.iconst 0, 1) := dk_3 (dk_at dksX9_init_7 4 rfl rfl)
theorem dX9_init_169 : decode cX9_init 169 = .ok (.invokevirtual 59, 3) := dk_182 0 59 (dk_at dksX9_init_7 5 rfl rfl)
theorem dX9_init_172 : decode cX9_init 172 = .ok (.aload_n 0, 1) := dk_42 (dk_at dksX9_init_7 8 rfl rfl)
theorem dX9_init_173 : decode cX9_init 173 = .ok (.iconst 4, 1) := dk_7 (dk_at dksX9_init_7 9 rfl rfl)
theorem dX9_init_174 : decode cX9_init 174 = .ok (.iconst 3, 1) := dk_6 (dk_at dksX9_init_7 10 rfl rfl)
theorem dX9_init_175 : decode cX9_init 175 = .ok (.iconst 5, 1) := dk_8 (dk_at dksX9_init_7 11 rfl rfl)
theorem dX9_init_176 : decode cX9_init 176 = .ok (.iconst 1, 1) := dk_4 (dk_at dksX9_init_7 12 rfl rfl)
theorem dX9_init_177 : decode cX9_init 177 = .ok (.invokevirtual 59, 3) := dk_182 0 59 (dk_at dksX9_init_7 13 rfl rfl)
theorem dX9_init_180 : decode cX9_init 180 = .ok (.aload_n 0, 1) := dk_42 (dk_at dksX9_init_7 16 rfl rfl)
theorem dX9_init_181 : decode cX9_init 181 = .ok (.bipush 15, 2) := dk_16 15 (dk_at dksX9_init_7 17 rfl rfl)
theorem dX9_init_183 : decode cX9_init 183 = .ok (.invokevirtual 62, 3) := dk_182 0 62 (dk_at dksX9_init_7 19 rfl rfl)
theorem dX9_init_186 : decode cX9_init 186 = .ok (.aload_n 0, 1) := dk_42 (dk_at dksX9_init_7 22 rfl rfl)
theorem dX9_init_187 : decode cX9_init 187 = .ok (.bipush 19, 2) := dk_16 19 (dk_at dksX9_init_8 0 rfl rfl)
theorem dX9_init_189 : decode cX9_init 189 = .ok (.invokevirtual 62, 3) := dk_182 0 62 (dk_at dksX9_init_8 2 rfl rfl)
theorem dX9_init_192 : decode cX9_init 192 = .ok (.aload_n 0, 1) := dk_42 (dk_at dksX9_init_8 5 rfl rfl)
theorem dX9_init_193 : decode cX9_init 193 = .ok (.bipush 15, 2) := dk_16 15 (dk_at dksX9_init_8 6 rfl rfl)
theorem dX9_init_195 : decode cX9_init 195 = .ok (.iconst 0, 1) := dk_3 (dk_at dksX9_init_8 8 rfl rfl)
theorem dX9_init_196 : decode cX9_init 196 = .ok (.invokevirtual 66, 3) := dk_182 0 66 (dk_at dksX9_init_8 9 rfl rfl)
theorem dX9_init_199 : decode cX9_init 199 = .ok (.aload_n 0, 1) := dk_42 (dk_at dksX9_init_8 12 rfl rfl)
theorem dX9_init_200 : decode cX9_init 200 = .ok (.bipush 16, 2) := dk_16 16 (dk_at dksX9_init_8 13 rfl rfl)
theorem dX9_init_202 : decode cX9_init 202 = .ok (.bipush 9, 2) := dk_16 9 (dk_at dksX9_init_8 15 rfl rfl)
theorem dX9_init_204 : decode cX9_init 204 = .ok (.invokevirtual 66, 3) := dk_182 0 66 (dk_at dksX9_init_8 17 rfl rfl)
theorem dX9_init_207 : decode cX9_init 207 = .ok (.aload_n 0, 1) := dk_42 (dk_at dksX9_init_8 20 rfl rfl)
theorem dX9_init_208 : decode cX9_init 208 = .ok (.bipush 19, 2) := dk_16 19 (dk_at dksX9_init_8 21 rfl rfl)
theorem dX9_init_210 : decode cX9_init 210 = .ok (.iconst 5, 1) := dk_8 (dk_at dksX9_init_8 23 rfl rfl)
theorem dX9_init_211 : decode cX9_init 211 = .ok (.invokevirtual 66, 3) := dk_182 0 66 (dk_at dksX9_init_9 0 rfl rfl)
theorem dX9_init_214 : decode cX9_init 214 = .ok (.return_, 1) := dk_177 (dk_at dksX9_init_9 3 rfl rfl)
abbrev cX9_addBank : ByteArray := prog_16_method_2_code
def yX9_addBank : MethodName := ⟨RX9, "addBank", "(IIII)V"⟩
def dkwX9_addBank_2 : List UInt8 := [21, 5, 6, 96, 21, 4, 79, 42, 180, 0, 7, 6, 92, 46, 4, 96, 79, 177]
abbrev dktX9_addBank_2 : List UInt8 := dkwX9_addBank_2 ++ []
def dkwX9_addBank_1 : List UInt8 := [180, 0, 7, 21, 5, 4, 96, 28, 79, 42, 180, 0, 7, 21, 5, 5, 96, 29, 79, 42, 180, 0, 7]
abbrev dktX9_addBank_1 : List UInt8 := dkwX9_addBank_1 ++ dktX9_addBank_2
def dkwX9_addBank_0 : List UInt8 := [16, 96, 7, 42, 180, 0, 7, 6, 46, 104, 96, 54, 5, 42, 180, 0, 7, 21, 5, 3, 96, 27, 79, 42]
abbrev dktX9_addBank_0 : List UInt8 := dkwX9_addBank_0 ++ dktX9_addBank_1
theorem dksX9_addBank_0 : cX9_addBank.data.toList.drop 0 = dktX9_addBank_0 := by decide +kernel
theorem dksX9_addBank_1 : cX9_addBank.data.toList.drop 24 = dktX9_addBank_1 := dk_seg dksX9_addBank_0 24 rfl rfl
theorem dksX9_addBank_2 : cX9_addBank.data.toList.drop 47 = dktX9_addBank_2 := dk_seg dksX9_addBank_1 23 rfl rfl
theorem dX9_addBank_0 : decode cX9_addBank 0 = .ok (.bipush 96, 2) := dk_16 96 (dk_at dksX9_addBank_0 0 rfl rfl)
theorem dX9_addBank_2 : decode cX9_addBank 2 = .ok (.iconst 4, 1) := dk_7 (dk_at dksX9_addBank_0 2 rfl rfl)
theorem dX9_addBank_3 : decode cX9_addBank 3 = .ok (.aload_n 0, 1) := dk_42 (dk_at dksX9_addBank_0 3 rfl rfl)
theorem dX9_addBank_4 : decode cX9_addBank 4 = .ok (.getfield 7, 3) := dk_180 0 7 (dk_at dksX9_addBank_0 4 rfl rfl)
theorem dX9_addBank_7 : decode cX9_addBank 7 = .ok (.iconst 3, 1) := dk_6 (dk_at dksX9_addBank_0 7 rfl rfl)
theorem dX9_addBank_8 : decode cX9_addBank 8 = .ok (.iaload, 1) := dk_46 (dk_at dksX9_addBank_0 8 rfl rfl)
theorem dX9_addBank_9 : decode cX9_addBank 9 = .ok (.imul, 1) := dk_104 (dk_at dksX9_addBank_0 9 rfl rfl)
theorem dX9_addBank_10 : decode cX9_addBank 10 = .ok (.iadd, 1) := dk_96 (dk_at dksX9_addBank_0 10 rfl rfl)
theorem dX9_addBank_11 : decode cX9_addBank 11 = .ok (.istore 5, 2) := dk_54 5 (dk_at dksX9_addBank_0 11 rfl rfl)
theorem dX9_addBank_13 : decode cX9_addBank 13 = .ok (.aload_n 0, 1) := dk_42 (dk_at dksX9_addBank_0 13 rfl rfl)
theorem dX9_addBank_14 : decode cX9_addBank 14 = .ok (.getfield 7, 3) := dk_180 0 7 (dk_at dksX9_addBank_0 14 rfl rfl)
theorem dX9_addBank_17 : decode cX9_addBank 17 = .ok (.iload 5, 2) := dk_21 5 (dk_at dksX9_addBank_0 17 rfl rfl)
theorem dX9_addBank_19 : decode cX9_addBank 19 = .ok (.iconst 0, 1) := dk_3 (dk_at dksX9_addBank_0 19 rfl rfl)
theorem dX9_addBank_20 : decode cX9_addBank 20 = .ok (.iadd, 1) := dk_96 (dk_at dksX9_addBank_0 20 rfl rfl)
theorem dX9_addBank_21 : decode cX9_addBank 21 = .ok (.iload_n 1, 1) := dk_27 (dk_at dksX9_addBank_0 21 rfl rfl)
theorem dX9_addBank_22 : decode cX9_addBank 22 = .ok (.iastore, 1) := dk_79 (dk_at dksX9_addBank_0 22 rfl rfl)
theorem dX9_addBank_23 : decode cX9_addBank 23 = .ok (.aload_n 0, 1) := dk_42 (dk_at dksX9_addBank_0 23 rfl rfl)
theorem dX9_addBank_24 : decode cX9_addBank 24 = .ok (.getfield 7, 3) := dk_180 0 7 (dk_at dksX9_addBank_1 0 rfl rfl)
theorem dX9_addBank_27 : decode cX9_addBank 27 = .ok (.iload 5, 2) := dk_21 5 (dk_at dksX9_addBank_1 3 rfl rfl)
theorem dX9_addBank_29 : decode cX9_addBank 29 = .ok (.iconst 1, 1) := dk_4 (dk_at dksX9_addBank_1 5 rfl rfl)
theorem dX9_addBank_30 : decode cX9_addBank 30 = .ok (.iadd, 1) := dk_96 (dk_at dksX9_addBank_1 6 rfl rfl)
theorem dX9_addBank_31 : decode cX9_addBank 31 = .ok (.iload_n 2, 1) := dk_28 (dk_at dksX9_addBank_1 7 rfl rfl)
theorem dX9_addBank_32 : decode cX9_addBank 32 = .ok (.iastore, 1) := dk_79 (dk_at dksX9_addBank_1 8 rfl rfl)
theorem dX9_addBank_33 : decode cX9_addBank 33 = .ok (.aload_n 0, 1) := dk_42 (dk_at dksX9_addBank_1 9 rfl rfl)
theorem dX9_addBank_34 : decode cX9_addBank 34 = .ok (.getfield 7, 3) := dk_180 0 7 (dk_at dksX9_addBank_1 10 rfl rfl)
theorem dX9_addBank_37 : decode cX9_addBank 37 = .ok (.iload 5, 2) := dk_21 5 (dk_at dksX9_addBank_1 13 rfl rfl)
theorem dX9_addBank_39 : decode cX9_addBank 39 = .ok (.iconst 2, 1) := dk_5 (dk_at dksX9_addBank_1 15 rfl rfl)
theorem dX9_addBank_40 : decode cX9_addBank 40 = .ok (.iadd, 1) := dk_96 (dk_at dksX9_addBank_1 16 rfl rfl)
theorem dX9_addBank_41 : decode cX9_addBank 41 = .ok (.iload_n 3, 1) := dk_29 (dk_at dksX9_addBank_1 17 rfl rfl)
theorem dX9_addBank_42 : decode cX9_addBank 42 = .ok (.iastore, 1) := dk_79 (dk_at dksX9_addBank_1 18 rfl rfl)
theorem dX9_addBank_43 : decode cX9_addBank 43 = .ok (.aload_n 0, 1) := dk_42 (dk_at dksX9_addBank_1 19 rfl rfl)
theorem dX9_addBank_44 : decode cX9_addBank 44 = .ok (.getfield 7, 3) := dk_180 0 7 (dk_at dksX9_addBank_1 20 rfl rfl)
theorem dX9_addBank_47 : decode cX9_addBank 47 = .ok (.iload 5, 2) := dk_21 5 (dk_at dksX9_addBank_2 0 rfl rfl)
theorem dX9_addBank_49 : decode cX9_addBank 49 = .ok (.iconst 3, 1) := dk_6 (dk_at dksX9_addBank_2 2 rfl rfl)
theorem dX9_addBank_50 : decode cX9_addBank 50 = .ok (.iadd, 1) := dk_96 (dk_at dksX9_addBank_2 3 rfl rfl)
theorem dX9_addBank_51 : decode cX9_addBank 51 = .ok (.iload 4, 2) := dk_21 4 (dk_at dksX9_addBank_2 4 rfl rfl)
theorem dX9_addBank_53 : decode cX9_addBank 53 = .ok (.iastore, 1) := dk_79 (dk_at dksX9_addBank_2 6 rfl rfl)
theorem dX9_addBank_54 : decode cX9_addBank 54 = .ok (.aload_n 0, 1) := dk_42 (dk_at dksX9_addBank_2 7 rfl rfl)
theorem dX9_addBank_55 : decode cX9_addBank 55 = .ok (.getfield 7, 3) := dk_180 0 7 (dk_at dksX9_addBank_2 8 rfl rfl)
theorem dX9_addBank_58 : decode cX9_addBank 58 = .ok (.iconst 3, 1) := dk_6 (dk_at dksX9_addBank_2 11 rfl rfl)
theorem dX9_addBank_59 : decode cX9_addBank 59 = .ok (.dup2, 1) := dk_92 (dk_at dksX9_addBank_2 12 rfl rfl)
theorem dX9_addBank_60 : decode cX9_addBank 60 = .ok (.iaload, 1) := dk_46 (dk_at dksX9_addBank_2 13 rfl rfl)
theorem dX9_addBank_61 : decode cX9_addBank 61 = .ok (.iconst 1, 1) := dk_4 (dk_at dksX9_addBank_2 14 rfl rfl)
theorem dX9_addBank_62 : decode cX9_addBank 62 = .ok (.iadd, 1) := dk_96 (dk_at dksX9_addBank_2 15 rfl rfl)
theorem dX9_addBank_63 : decode cX9_addBank 63 = .ok (.iastore, 1) := dk_79 (dk_at dksX9_addBank_2 16 rfl rfl)
theorem dX9_addBank_64 : decode cX9_addBank 64 = .ok (.return_, 1) := dk_177 (dk_at dksX9_addBank_2 17 rfl rfl)
abbrev cX9_addWatcher : ByteArray := prog_16_method_3_code
def yX9_addWatcher : MethodName := ⟨RX9, "addWatcher", "(IIII)V"⟩
def dkwX9_addWatcher_2 : List UInt8 := [21, 5, 6, 96, 21, 4, 79, 42, 180, 0, 7, 7, 92, 46, 4, 96, 79, 177]
abbrev dktX9_addWatcher_2 : List UInt8 := dkwX9_addWatcher_2 ++ []
def dkwX9_addWatcher_1 : List UInt8 := [180, 0, 7, 21, 5, 4, 96, 28, 79, 42, 180, 0, 7, 21, 5, 5, 96, 29, 79, 42, 180, 0, 7]
abbrev dktX9_addWatcher_1 : List UInt8 := dkwX9_addWatcher_1 ++ dktX9_addWatcher_2
def dkwX9_addWatcher_0 : List UInt8 := [16, 116, 7, 42, 180, 0, 7, 7, 46, 104, 96, 54, 5, 42, 180, 0, 7, 21, 5, 3, 96, 27, 79, 42]
abbrev dktX9_addWatcher_0 : List UInt8 := dkwX9_addWatcher_0 ++ dktX9_addWatcher_1
theorem dksX9_addWatcher_0 : cX9_addWatcher.data.toList.drop 0 = dktX9_addWatcher_0 := by decide +kernel
theorem dksX9_addWatcher_1 : cX9_addWatcher.data.toList.drop 24 = dktX9_addWatcher_1 := dk_seg dksX9_addWatcher_0 24 rfl rfl
theorem dksX9_addWatcher_2 : cX9_addWatcher.data.toList.drop 47 = dktX9_addWatcher_2 := dk_seg dksX9_addWatcher_1 23 rfl rfl
theorem dX9_addWatcher_0 : decode cX9_addWatcher 0 = .ok (.bipush 116, 2) := dk_16 116 (dk_at dksX9_addWatcher_0 0 rfl rfl)
theorem dX9_addWatcher_2 : decode cX9_addWatcher 2 = .ok (.iconst 4, 1) := dk_7 (dk_at dksX9_addWatcher_0 2 rfl rfl)
theorem dX9_addWatcher_3 : decode cX9_addWatcher 3 = .ok (.aload_n 0, 1) := dk_42 (dk_at dksX9_addWatcher_0 3 rfl rfl)
theorem dX9_addWatcher_4 : decode cX9_addWatcher 4 = .ok (.getfield 7, 3) := dk_180 0 7 (dk_at dksX9_addWatcher_0 4 rfl rfl)
theorem dX9_addWatcher_7 : decode cX9_addWatcher 7 = .ok (.iconst 4, 1) := dk_7 (dk_at dksX9_addWatcher_0 7 rfl rfl)
theorem dX9_addWatcher_8 : decode cX9_addWatcher 8 = .ok (.iaload, 1) := dk_46 (dk_at dksX9_addWatcher_0 8 rfl rfl)
theorem dX9_addWatcher_9 : decode cX9_addWatcher 9 = .ok (.imul, 1) := dk_104 (dk_at dksX9_addWatcher_0 9 rfl rfl)
theorem dX9_addWatcher_10 : decode cX9_addWatcher 10 = .ok (.iadd, 1) := dk_96 (dk_at dksX9_addWatcher_0 10 rfl rfl)
theorem dX9_addWatcher_11 : decode cX9_addWatcher 11 = .ok (.istore 5, 2) := dk_54 5 (dk_at dksX9_addWatcher_0 11 rfl rfl)
theorem dX9_addWatcher_13 : decode cX9_addWatcher 13 = .ok (.aload_n 0, 1) := dk_42 (dk_at dksX9_addWatcher_0 13 rfl rfl)
theorem dX9_addWatcher_14 : decode cX9_addWatcher 14 = .ok (.getfield 7, 3) := dk_180 0 7 (dk_at dksX9_addWatcher_0 14 rfl rfl)
theorem dX9_addWatcher_17 : decode cX9_addWatcher 17 = .ok (.iload 5, 2) := dk_21 5 (dk_at dksX9_addWatcher_0 17 rfl rfl)
theorem dX9_addWatcher_19 : decode cX9_addWatcher 19 = .ok (.iconst 0, 1) := dk_3 (dk_at dksX9_addWatcher_0 19 rfl rfl)
theorem dX9_addWatcher_20 : decode cX9_addWatcher 20 = .ok (.iadd, 1) := dk_96 (dk_at dksX9_addWatcher_0 20 rfl rfl)
theorem dX9_addWatcher_21 : decode cX9_addWatcher 21 = .ok (.iload_n 1, 1) := dk_27 (dk_at dksX9_addWatcher_0 21 rfl rfl)
theorem dX9_addWatcher_22 : decode cX9_addWatcher 22 = .ok (.iastore, 1) := dk_79 (dk_at dksX9_addWatcher_0 22 rfl rfl)
theorem dX9_addWatcher_23 : decode cX9_addWatcher 23 = .ok (.aload_n 0, 1) := dk_42 (dk_at dksX9_addWatcher_0 23 rfl rfl)
theorem dX9_addWatcher_24 : decode cX9_addWatcher 24 = .ok (.getfield 7, 3) := dk_180 0 7 (dk_at dksX9_addWatcher_1 0 rfl rfl)
theorem dX9_addWatcher_27 : decode cX9_addWatcher 27 = .ok (.iload 5, 2) := dk_21 5 (dk_at dksX9_addWatcher_1 3 rfl rfl)
theorem dX9_addWatcher_29 : decode cX9_addWatcher 29 = .ok (.iconst 1, 1) := dk_4 (dk_at dksX9_addWatcher_1 5 rfl rfl)
theorem dX9_addWatcher_30 : decode cX9_addWatcher 30 = .ok (.iadd, 1) := dk_96 (dk_at dksX9_addWatcher_1 6 rfl rfl)
theorem dX9_addWatcher_31 : decode cX9_addWatcher 31 = .ok (.iload_n 2, 1) := dk_28 (dk_at dksX9_addWatcher_1 7 rfl rfl)
theorem dX9_addWatcher_32 : decode cX9_addWatcher 32 = .ok (.iastore, 1) := dk_79 (dk_at dksX9_addWatcher_1 8 rfl rfl)
theorem dX9_addWatcher_33 : decode cX9_addWatcher 33 = .ok (.aload_n 0, 1) := dk_42 (dk_at dksX9_addWatcher_1 9 rfl rfl)
theorem dX9_addWatcher_34 : decode cX9_addWatcher 34 = .ok (.getfield 7, 3) := dk_180 0 7 (dk_at dksX9_addWatcher_1 10 rfl rfl)
theorem dX9_addWatcher_37 : decode cX9_addWatcher 37 = .ok (.iload 5, 2) := dk_21 5 (dk_at dksX9_addWatcher_1 13 rfl rfl)
theorem dX9_addWatcher_39 : decode cX9_addWatcher 39 = .ok (.iconst 2, 1) := dk_5 (dk_at dksX9_addWatcher_1 15 rfl rfl)
theorem dX9_addWatcher_40 : decode cX9_addWatcher 40 = .ok (.iadd, 1) := dk_96 (dk_at dksX9_addWatcher_1 16 rfl rfl)
theorem dX9_addWatcher_41 : decode cX9_addWatcher 41 = .ok (.iload_n 3, 1) := dk_29 (dk_at dksX9_addWatcher_1 17 rfl rfl)
theorem dX9_addWatcher_42 : decode cX9_addWatcher 42 = .ok (.iastore, 1) := dk_79 (dk_at dksX9_addWatcher_1 18 rfl rfl)
theorem dX9_addWatcher_43 : decode cX9_addWatcher 43 = .ok (.aload_n 0, 1) := dk_42 (dk_at dksX9_addWatcher_1 19 rfl rfl)
theorem dX9_addWatcher_44 : decode cX9_addWatcher 44 = .ok (.getfield 7, 3) := dk_180 0 7 (dk_at dksX9_addWatcher_1 20 rfl rfl)
theorem dX9_addWatcher_47 : decode cX9_addWatcher 47 = .ok (.iload 5, 2) := dk_21 5 (dk_at dksX9_addWatcher_2 0 rfl rfl)
theorem dX9_addWatcher_49 : decode cX9_addWatcher 49 = .ok (.iconst 3, 1) := dk_6 (dk_at dksX9_addWatcher_2 2 rfl rfl)
theorem dX9_addWatcher_50 : decode cX9_addWatcher 50 = .ok (.iadd, 1) := dk_96 (dk_at dksX9_addWatcher_2 3 rfl rfl)
theorem dX9_addWatcher_51 : decode cX9_addWatcher 51 = .ok (.iload 4, 2) := dk_21 4 (dk_at dksX9_addWatcher_2 4 rfl rfl)
theorem dX9_addWatcher_53 : decode cX9_addWatcher 53 = .ok (.iastore, 1) := dk_79 (dk_at dksX9_addWatcher_2 6 rfl rfl)
theorem dX9_addWatcher_54 : decode cX9_addWatcher 54 = .ok (.aload_n 0, 1) := dk_42 (dk_at dksX9_addWatcher_2 7 rfl rfl)
theorem dX9_addWatcher_55 : decode cX9_addWatcher 55 = .ok (.getfield 7, 3) := dk_180 0 7 (dk_at dksX9_addWatcher_2 8 rfl rfl)
theorem dX9_addWatcher_58 : decode cX9_addWatcher 58 = .ok (.iconst 4, 1) := dk_7 (dk_at dksX9_addWatcher_2 11 rfl rfl)
theorem dX9_addWatcher_59 : decode cX9_addWatcher 59 = .ok (.dup2, 1) := dk_92 (dk_at dksX9_addWatcher_2 12 rfl rfl)
theorem dX9_addWatcher_60 : decode cX9_addWatcher 60 = .ok (.iaload, 1) := dk_46 (dk_at dksX9_addWatcher_2 13 rfl rfl)
theorem dX9_addWatcher_61 : decode cX9_addWatcher 61 = .ok (.iconst 1, 1) := dk_4 (dk_at dksX9_addWatcher_2 14 rfl rfl)
theorem dX9_addWatcher_62 : decode cX9_addWatcher 62 = .ok (.iadd, 1) := dk_96 (dk_at dksX9_addWatcher_2 15 rfl rfl)
theorem dX9_addWatcher_63 : decode cX9_addWatcher 63 = .ok (.iastore, 1) := dk_79 (dk_at dksX9_addWatcher_2 16 rfl rfl)
theorem dX9_addWatcher_64 : decode cX9_addWatcher 64 = .ok (.return_, 1) := dk_177 (dk_at dksX9_addWatcher_2 17 rfl rfl)
abbrev cX9_addCourier : ByteArray := prog_16_method_4_code
def yX9_addCourier : MethodName := ⟨RX9, "addCourier", "(I)V"⟩
def dkwX9_addCourier_1 : List UInt8 := [42, 180, 0, 7, 8, 92, 46, 4, 96, 79, 177]
abbrev dktX9_addCourier_1 : List UInt8 := dkwX9_addCourier_1 ++ []
def dkwX9_addCourier_0 : List UInt8 := [42, 42, 180, 0, 7, 8, 46, 3, 27, 182, 0, 70, 42, 42, 180, 0, 7, 8, 46, 4, 27, 182, 0, 70]
abbrev dktX9_addCourier_0 : List UInt8 := dkwX9_addCourier_0 ++ dktX9_addCourier_1
theorem dksX9_addCourier_0 : cX9_addCourier.data.toList.drop 0 = dktX9_addCourier_0 := by decide +kernel
theorem dksX9_addCourier_1 : cX9_addCourier.data.toList.drop 24 = dktX9_addCourier_1 := dk_seg dksX9_addCourier_0 24 rfl rfl
theorem dX9_addCourier_0 : decode cX9_addCourier 0 = .ok (.aload_n 0, 1) := dk_42 (dk_at dksX9_addCourier_0 0 rfl rfl)
theorem dX9_addCourier_1 : decode cX9_addCourier 1 = .ok (.aload_n 0, 1) := dk_42 (dk_at dksX9_addCourier_0 1 rfl rfl)
theorem dX9_addCourier_2 : decode cX9_addCourier 2 = .ok (.getfield 7, 3) := dk_180 0 7 (dk_at dksX9_addCourier_0 2 rfl rfl)
theorem dX9_addCourier_5 : decode cX9_addCourier 5 = .ok (.iconst 5, 1) := dk_8 (dk_at dksX9_addCourier_0 5 rfl rfl)
theorem dX9_addCourier_6 : decode cX9_addCourier 6 = .ok (.iaload, 1) := dk_46 (dk_at dksX9_addCourier_0 6 rfl rfl)
theorem dX9_addCourier_7 : decode cX9_addCourier 7 = .ok (.iconst 0, 1) := dk_3 (dk_at dksX9_addCourier_0 7 rfl rfl)
theorem dX9_addCourier_8 : decode cX9_addCourier 8 = .ok (.iload_n 1, 1) := dk_27 (dk_at dksX9_addCourier_0 8 rfl rfl)
theorem dX9_addCourier_9 : decode cX9_addCourier 9 = .ok (.invokevirtual 70, 3) := dk_182 0 70 (dk_at dksX9_addCourier_0 9 rfl rfl)
theorem dX9_addCourier_12 : decode cX9_addCourier 12 = .ok (.aload_n 0, 1) := dk_42 (dk_at dksX9_addCourier_0 12 rfl rfl)
theorem dX9_addCourier_13 : decode cX9_addCourier 13 = .ok (.aload_n 0, 1) := dk_42 (dk_at dksX9_addCourier_0 13 rfl rfl)
theorem dX9_addCourier_14 : decode cX9_addCourier 14 = .ok (.getfield 7, 3) := dk_180 0 7 (dk_at dksX9_addCourier_0 14 rfl rfl)
theorem dX9_addCourier_17 : decode cX9_addCourier 17 = .ok (.iconst 5, 1) := dk_8 (dk_at dksX9_addCourier_0 17 rfl rfl)
theorem dX9_addCourier_18 : decode cX9_addCourier 18 = .ok (.iaload, 1) := dk_46 (dk_at dksX9_addCourier_0 18 rfl rfl)
theorem dX9_addCourier_19 : decode cX9_addCourier 19 = .ok (.iconst 1, 1) := dk_4 (dk_at dksX9_addCourier_0 19 rfl rfl)
theorem dX9_addCourier_20 : decode cX9_addCourier 20 = .ok (.iload_n 1, 1) := dk_27 (dk_at dksX9_addCourier_0 20 rfl rfl)
theorem dX9_addCourier_21 : decode cX9_addCourier 21 = .ok (.invokevirtual 70, 3) := dk_182 0 70 (dk_at dksX9_addCourier_0 21 rfl rfl)
theorem dX9_addCourier_24 : decode cX9_addCourier 24 = .ok (.aload_n 0, 1) := dk_42 (dk_at dksX9_addCourier_1 0 rfl rfl)
theorem dX9_addCourier_25 : decode cX9_addCourier 25 = .ok (.getfield 7, 3) := dk_180 0 7 (dk_at dksX9_addCourier_1 1 rfl rfl)
theorem dX9_addCourier_28 : decode cX9_addCourier 28 = .ok (.iconst 5, 1) := dk_8 (dk_at dksX9_addCourier_1 4 rfl rfl)
theorem dX9_addCourier_29 : decode cX9_addCourier 29 = .ok (.dup2, 1) := dk_92 (dk_at dksX9_addCourier_1 5 rfl rfl)
theorem dX9_addCourier_30 : decode cX9_addCourier 30 = .ok (.iaload, 1) := dk_46 (dk_at dksX9_addCourier_1 6 rfl rfl)
theorem dX9_addCourier_31 : decode cX9_addCourier 31 = .ok (.iconst 1, 1) := dk_4 (dk_at dksX9_addCourier_1 7 rfl rfl)
theorem dX9_addCourier_32 : decode cX9_addCourier 32 = .ok (.iadd, 1) := dk_96 (dk_at dksX9_addCourier_1 8 rfl rfl)
theorem dX9_addCourier_33 : decode cX9_addCourier 33 = .ok (.iastore, 1) := dk_79 (dk_at dksX9_addCourier_1 9 rfl rfl)
theorem dX9_addCourier_34 : decode cX9_addCourier 34 = .ok (.return_, 1) := dk_177 (dk_at dksX9_addCourier_1 10 rfl rfl)
abbrev cX9_lay : ByteArray := prog_16_method_14_code
def yX9_lay : MethodName := ⟨RX9, "lay", "(III)V"⟩
def dkwX9_lay_0 : List UInt8 := [42, 180, 0, 7, 17, 0, 132, 16, 6, 27, 104, 96, 28, 96, 29, 79, 177]
abbrev dktX9_lay_0 : List UInt8 := dkwX9_lay_0 ++ []
theorem dksX9_lay_0 : cX9_lay.data.toList.drop 0 = dktX9_lay_0 := by decide +kernel
theorem dX9_lay_0 : decode cX9_lay 0 = .ok (.aload_n 0, 1) := dk_42 (dk_at dksX9_lay_0 0 rfl rfl)
theorem dX9_lay_1 : decode cX9_lay 1 = .ok (.getfield 7, 3) := dk_180 0 7 (dk_at dksX9_lay_0 1 rfl rfl)
theorem dX9_lay_4 : decode cX9_lay 4 = .ok (.sipush 132, 3) := dk_17 0 132 (dk_at dksX9_lay_0 4 rfl rfl)
theorem dX9_lay_7 : decode cX9_lay 7 = .ok (.bipush 6, 2) := dk_16 6 (dk_at dksX9_lay_0 7 rfl rfl)
theorem dX9_lay_9 : decode cX9_lay 9 = .ok (.iload_n 1, 1) := dk_27 (dk_at dksX9_lay_0 9 rfl rfl)
theorem dX9_lay_10 : decode cX9_lay 10 = .ok (.imul, 1) := dk_104 (dk_at dksX9_lay_0 10 rfl rfl)
theorem dX9_lay_11 : decode cX9_lay 11 = .ok (.iadd, 1) := dk_96 (dk_at dksX9_lay_0 11 rfl rfl)
theorem dX9_lay_12 : decode cX9_lay 12 = .ok (.iload_n 2, 1) := dk_28 (dk_at dksX9_lay_0 12 rfl rfl)
theorem dX9_lay_13 : decode cX9_lay 13 = .ok (.iadd, 1) := dk_96 (dk_at dksX9_lay_0 13 rfl rfl)
theorem dX9_lay_14 : decode cX9_lay 14 = .ok (.iload_n 3, 1) := dk_29 (dk_at dksX9_lay_0 14 rfl rfl)
theorem dX9_lay_15 : decode cX9_lay 15 = .ok (.iastore, 1) := dk_79 (dk_at dksX9_lay_0 15 rfl rfl)
theorem dX9_lay_16 : decode cX9_lay 16 = .ok (.return_, 1) := dk_177 (dk_at dksX9_lay_0 16 rfl rfl)
abbrev cX9_addLetter : ByteArray := prog_16_method_5_code
def yX9_addLetter : MethodName := ⟨RX9, "addLetter", "(II)V"⟩
def dkwX9_addLetter_2 : List UInt8 := [16, 6, 92, 46, 4, 96, 79, 177]
abbrev dktX9_addLetter_2 : List UInt8 := dkwX9_addLetter_2 ++ []
def dkwX9_addLetter_1 : List UInt8 := [5, 3, 182, 0, 74, 42, 29, 6, 27, 182, 0, 74, 42, 29, 7, 2, 182, 0, 74, 42, 180, 0, 7]
abbrev dktX9_addLetter_1 : List UInt8 := dkwX9_addLetter_1 ++ dktX9_addLetter_2
def dkwX9_addLetter_0 : List UInt8 := [42, 180, 0, 7, 16, 6, 46, 62, 42, 29, 3, 27, 182, 0, 74, 42, 29, 4, 28, 182, 0, 74, 42, 29]
abbrev dktX9_addLetter_0 : List UInt8 := dkwX9_addLetter_0 ++ dktX9_addLetter_1
theorem dksX9_addLetter_0 : cX9_addLetter.data.toList.drop 0 = dktX9_addLetter_0 := by decide +kernel
theorem dksX9_addLetter_1 : cX9_addLetter.data.toList.drop 24 = dktX9_addLetter_1 := dk_seg dksX9_addLetter_0 24 rfl rfl
theorem dksX9_addLetter_2 : cX9_addLetter.data.toList.drop 47 = dktX9_addLetter_2 := dk_seg dksX9_addLetter_1 23 rfl rfl
theorem dX9_addLetter_0 : decode cX9_addLetter 0 = .ok (.aload_n 0, 1) := dk_42 (dk_at dksX9_addLetter_0 0 rfl rfl)
theorem dX9_addLetter_1 : decode cX9_addLetter 1 = .ok (.getfield 7, 3) := dk_180 0 7 (dk_at dksX9_addLetter_0 1 rfl rfl)
theorem dX9_addLetter_4 : decode cX9_addLetter 4 = .ok (.bipush 6, 2) := dk_16 6 (dk_at dksX9_addLetter_0 4 rfl rfl)
theorem dX9_addLetter_6 : decode cX9_addLetter 6 = .ok (.iaload, 1) := dk_46 (dk_at dksX9_addLetter_0 6 rfl rfl)
theorem dX9_addLetter_7 : decode cX9_addLetter 7 = .ok (.istore_n 3, 1) := dk_62 (dk_at dksX9_addLetter_0 7 rfl rfl)
theorem dX9_addLetter_8 : decode cX9_addLetter 8 = .ok (.aload_n 0, 1) := dk_42 (dk_at dksX9_addLetter_0 8 rfl rfl)
theorem dX9_addLetter_9 : decode cX9_addLetter 9 = .ok (.iload_n 3, 1) := dk_29 (dk_at dksX9_addLetter_0 9 rfl rfl)
theorem dX9_addLetter_10 : decode cX9_addLetter 10 = .ok (.iconst 0, 1) := dk_3 (dk_at dksX9_addLetter_0 10 rfl rfl)
theorem dX9_addLetter_11 : decode cX9_addLetter 11 = .ok (.iload_n 1, 1) := dk_27 (dk_at dksX9_addLetter_0 11 rfl rfl)
theorem dX9_addLetter_12 : decode cX9_addLetter 12 = .ok (.invokevirtual 74, 3) := dk_182 0 74 (dk_at dksX9_addLetter_0 12 rfl rfl)
theorem dX9_addLetter_15 : decode cX9_addLetter 15 = .ok (.aload_n 0, 1) := dk_42 (dk_at dksX9_addLetter_0 15 rfl rfl)
theorem dX9_addLetter_16 : decode cX9_addLetter 16 = .ok (.iload_n 3, 1) := dk_29 (dk_at dksX9_addLetter_0 16 rfl rfl)
theorem dX9_addLetter_17 : decode cX9_addLetter 17 = .ok (.iconst 1, 1) := dk_4 (dk_at dksX9_addLetter_0 17 rfl rfl)
theorem dX9_addLetter_18 : decode cX9_addLetter 18 = .ok (.iload_n 2, 1) := dk_28 (dk_at dksX9_addLetter_0 18 rfl rfl)
theorem dX9_addLetter_19 : decode cX9_addLetter 19 = .ok (.invokevirtual 74, 3) := dk_182 0 74 (dk_at dksX9_addLetter_0 19 rfl rfl)
theorem dX9_addLetter_22 : decode cX9_addLetter 22 = .ok (.aload_n 0, 1) := dk_42 (dk_at dksX9_addLetter_0 22 rfl rfl)
theorem dX9_addLetter_23 : decode cX9_addLetter 23 = .ok (.iload_n 3, 1) := dk_29 (dk_at dksX9_addLetter_0 23 rfl rfl)
theorem dX9_addLetter_24 : decode cX9_addLetter 24 = .ok (.iconst 2, 1) := dk_5 (dk_at dksX9_addLetter_1 0 rfl rfl)
theorem dX9_addLetter_25 : decode cX9_addLetter 25 = .ok (.iconst 0, 1) := dk_3 (dk_at dksX9_addLetter_1 1 rfl rfl)
theorem dX9_addLetter_26 : decode cX9_addLetter 26 = .ok (.invokevirtual 74, 3) := dk_182 0 74 (dk_at dksX9_addLetter_1 2 rfl rfl)
theorem dX9_addLetter_29 : decode cX9_addLetter 29 = .ok (.aload_n 0, 1) := dk_42 (dk_at dksX9_addLetter_1 5 rfl rfl)
theorem dX9_addLetter_30 : decode cX9_addLetter 30 = .ok (.iload_n 3, 1) := dk_29 (dk_at dksX9_addLetter_1 6 rfl rfl)
theorem dX9_addLetter_31 : decode cX9_addLetter 31 = .ok (.iconst 3, 1) := dk_6 (dk_at dksX9_addLetter_1 7 rfl rfl)
theorem dX9_addLetter_32 : decode cX9_addLetter 32 = .ok (.iload_n 1, 1) := dk_27 (dk_at dksX9_addLetter_1 8 rfl rfl)
theorem dX9_addLetter_33 : decode cX9_addLetter 33 = .ok (.invokevirtual 74, 3) := dk_182 0 74 (dk_at dksX9_addLetter_1 9 rfl rfl)
theorem dX9_addLetter_36 : decode cX9_addLetter 36 = .ok (.aload_n 0, 1) := dk_42 (dk_at dksX9_addLetter_1 12 rfl rfl)
theorem dX9_addLetter_37 : decode cX9_addLetter 37 = .ok (.iload_n 3, 1) := dk_29 (dk_at dksX9_addLetter_1 13 rfl rfl)
theorem dX9_addLetter_38 : decode cX9_addLetter 38 = .ok (.iconst 4, 1) := dk_7 (dk_at dksX9_addLetter_1 14 rfl rfl)
theorem dX9_addLetter_39 : decode cX9_addLetter 39 = .ok (.iconst (-1), 1) := dk_2 (dk_at dksX9_addLetter_1 15 rfl rfl)
theorem dX9_addLetter_40 : decode cX9_addLetter 40 = .ok (.invokevirtual 74, 3) := dk_182 0 74 (dk_at dksX9_addLetter_1 16 rfl rfl)
theorem dX9_addLetter_43 : decode cX9_addLetter 43 = .ok (.aload_n 0, 1) := dk_42 (dk_at dksX9_addLetter_1 19 rfl rfl)
theorem dX9_addLetter_44 : decode cX9_addLetter 44 = .ok (.getfield 7, 3) := dk_180 0 7 (dk_at dksX9_addLetter_1 20 rfl rfl)
theorem dX9_addLetter_47 : decode cX9_addLetter 47 = .ok (.bipush 6, 2) := dk_16 6 (dk_at dksX9_addLetter_2 0 rfl rfl)
theorem dX9_addLetter_49 : decode cX9_addLetter 49 = .ok (.dup2, 1) := dk_92 (dk_at dksX9_addLetter_2 2 rfl rfl)
theorem dX9_addLetter_50 : decode cX9_addLetter 50 = .ok (.iaload, 1) := dk_46 (dk_at dksX9_addLetter_2 3 rfl rfl)
theorem dX9_addLetter_51 : decode cX9_addLetter 51 = .ok (.iconst 1, 1) := dk_4 (dk_at dksX9_addLetter_2 4 rfl rfl)
theorem dX9_addLetter_52 : decode cX9_addLetter 52 = .ok (.iadd, 1) := dk_96 (dk_at dksX9_addLetter_2 5 rfl rfl)
theorem dX9_addLetter_53 : decode cX9_addLetter 53 = .ok (.iastore, 1) := dk_79 (dk_at dksX9_addLetter_2 6 rfl rfl)
theorem dX9_addLetter_54 : decode cX9_addLetter 54 = .ok (.return_, 1) := dk_177 (dk_at dksX9_addLetter_2 7 rfl rfl)
abbrev cX9_layOfLetter : ByteArray := prog_16_method_17_code
def yX9_layOfLetter : MethodName := ⟨RX9, "layOfLetter", "(III)V"⟩
def dkwX9_layOfLetter_0 : List UInt8 := [42, 180, 0, 7, 17, 0, 156, 16, 6, 27, 104, 96, 28, 96, 29, 79, 177]
abbrev dktX9_layOfLetter_0 : List UInt8 := dkwX9_layOfLetter_0 ++ []
theorem dksX9_layOfLetter_0 : cX9_layOfLetter.data.toList.drop 0 = dktX9_layOfLetter_0 := by decide +kernel
theorem dX9_layOfLetter_0 : decode cX9_layOfLetter 0 = .ok (.aload_n 0, 1) := dk_42 (dk_at dksX9_layOfLetter_0 0 rfl rfl)
theorem dX9_layOfLetter_1 : decode cX9_layOfLetter 1 = .ok (.getfield 7, 3) := dk_180 0 7 (dk_at dksX9_layOfLetter_0 1 rfl rfl)
theorem dX9_layOfLetter_4 : decode cX9_layOfLetter 4 = .ok (.sipush 156, 3) := dk_17 0 156 (dk_at dksX9_layOfLetter_0 4 rfl rfl)
theorem dX9_layOfLetter_7 : decode cX9_layOfLetter 7 = .ok (.bipush 6, 2) := dk_16 6 (dk_at dksX9_layOfLetter_0 7 rfl rfl)
theorem dX9_layOfLetter_9 : decode cX9_layOfLetter 9 = .ok (.iload_n 1, 1) := dk_27 (dk_at dksX9_layOfLetter_0 9 rfl rfl)
theorem dX9_layOfLetter_10 : decode cX9_layOfLetter 10 = .ok (.imul, 1) := dk_104 (dk_at dksX9_layOfLetter_0 10 rfl rfl)
theorem dX9_layOfLetter_11 : decode cX9_layOfLetter 11 = .ok (.iadd, 1) := dk_96 (dk_at dksX9_layOfLetter_0 11 rfl rfl)
theorem dX9_layOfLetter_12 : decode cX9_layOfLetter 12 = .ok (.iload_n 2, 1) := dk_28 (dk_at dksX9_layOfLetter_0 12 rfl rfl)
theorem dX9_layOfLetter_13 : decode cX9_layOfLetter 13 = .ok (.iadd, 1) := dk_96 (dk_at dksX9_layOfLetter_0 13 rfl rfl)
theorem dX9_layOfLetter_14 : decode cX9_layOfLetter 14 = .ok (.iload_n 3, 1) := dk_29 (dk_at dksX9_layOfLetter_0 14 rfl rfl)
theorem dX9_layOfLetter_15 : decode cX9_layOfLetter 15 = .ok (.iastore, 1) := dk_79 (dk_at dksX9_layOfLetter_0 15 rfl rfl)
theorem dX9_layOfLetter_16 : decode cX9_layOfLetter 16 = .ok (.return_, 1) := dk_177 (dk_at dksX9_layOfLetter_0 16 rfl rfl)
abbrev cX9_thrown : ByteArray := prog_16_method_6_code
def yX9_thrown : MethodName := ⟨RX9, "thrown", "()I"⟩
theorem dX9_thrown_0 : decode cX9_thrown 0 = .ok (.aload_n 0, 1) := by decide +kernel
theorem dX9_thrown_1 : decode cX9_thrown 1 = .ok (.getfield 77, 3) := by decide +kernel
theorem dX9_thrown_4 : decode cX9_thrown 4 = .ok (.ireturn, 1) := by decide +kernel
abbrev cX9_appendText : ByteArray := prog_16_method_47_code
def yX9_appendText : MethodName := ⟨RX9, "appendText", "(I)I"⟩
def dkwX9_appendText_2 : List UInt8 := [122, 145, 84, 132, 2, 1, 167, 255, 227, 42, 89, 180, 0, 178, 7, 96, 181, 0, 178, 42, 180, 0, 178, 172]
abbrev dktX9_appendText_2 : List UInt8 := dkwX9_appendText_2 ++ []
def dkwX9_appendText_1 : List UInt8 := [61, 28, 7, 162, 0, 30, 42, 180, 0, 32, 42, 180, 0, 178, 28, 96, 27, 16, 24, 16, 8, 28, 104, 100]
abbrev dktX9_appendText_1 : List UInt8 := dkwX9_appendText_1 ++ dktX9_appendText_2
def dkwX9_appendText_0 : List UInt8 := [42, 3, 181, 0, 77, 42, 180, 0, 178, 7, 96, 17, 1, 244, 164, 0, 9, 42, 4, 182, 0, 181, 172, 3]
abbrev dktX9_appendText_0 : List UInt8 := dkwX9_appendText_0 ++ dktX9_appendText_1
theorem dksX9_appendText_0 : cX9_appendText.data.toList.drop 0 = dktX9_appendText_0 := by decide +kernel
theorem dksX9_appendText_1 : cX9_appendText.data.toList.drop 24 = dktX9_appendText_1 := dk_seg dksX9_appendText_0 24 rfl rfl
theorem dksX9_appendText_2 : cX9_appendText.data.toList.drop 48 = dktX9_appendText_2 := dk_seg dksX9_appendText_1 24 rfl rfl
theorem dX9_appendText_0 : decode cX9_appendText 0 = .ok (.aload_n 0, 1) := dk_42 (dk_at dksX9_appendText_0 0 rfl rfl)
theorem dX9_appendText_1 : decode cX9_appendText 1 = .ok (.iconst 0, 1) := dk_3 (dk_at dksX9_appendText_0 1 rfl rfl)
theorem dX9_appendText_2 : decode cX9_appendText 2 = .ok (.putfield 77, 3) := dk_181 0 77 (dk_at dksX9_appendText_0 2 rfl rfl)
theorem dX9_appendText_5 : decode cX9_appendText 5 = .ok (.aload_n 0, 1) := dk_42 (dk_at dksX9_appendText_0 5 rfl rfl)
theorem dX9_appendText_6 : decode cX9_appendText 6 = .ok (.getfield 178, 3) := dk_180 0 178 (dk_at dksX9_appendText_0 6 rfl rfl)
theorem dX9_appendText_9 : decode cX9_appendText 9 = .ok (.iconst 4, 1) := dk_7 (dk_at dksX9_appendText_0 9 rfl rfl)
theorem dX9_appendText_10 : decode cX9_appendText 10 = .ok (.iadd, 1) := dk_96 (dk_at dksX9_appendText_0 10 rfl rfl)
theorem dX9_appendText_11 : decode cX9_appendText 11 = .ok (.sipush 500, 3) := dk_17 1 244 (dk_at dksX9_appendText_0 11 rfl rfl)
theorem dX9_appendText_14 : decode cX9_appendText 14 = .ok (.if_icmp .le 9, 3) := dk_164 0 9 (dk_at dksX9_appendText_0 14 rfl rfl)
theorem dX9_appendText_17 : decode cX9_appendText 17 = .ok (.aload_n 0, 1) := dk_42 (dk_at dksX9_appendText_0 17 rfl rfl)
theorem dX9_appendText_18 : decode cX9_appendText 18 = .ok (.iconst 1, 1) := dk_4 (dk_at dksX9_appendText_0 18 rfl rfl)
theorem dX9_appendText_19 : decode cX9_appendText 19 = .ok (.invokevirtual 181, 3) := dk_182 0 181 (dk_at dksX9_appendText_0 19 rfl rfl)
theorem dX9_appendText_22 : decode cX9_appendText 22 = .ok (.ireturn, 1) := dk_172 (dk_at dksX9_appendText_0 22 rfl rfl)
theorem dX9_appendText_23 : decode cX9_appendText 23 = .ok (.iconst 0, 1) := dk_3 (dk_at dksX9_appendText_0 23 rfl rfl)
theorem dX9_appendText_24 : decode cX9_appendText 24 = .ok (.istore_n 2, 1) := dk_61 (dk_at dksX9_appendText_1 0 rfl rfl)
theorem dX9_appendText_25 : decode cX9_appendText 25 = .ok (.iload_n 2, 1) := dk_28 (dk_at dksX9_appendText_1 1 rfl rfl)
theorem dX9_appendText_26 : decode cX9_appendText 26 = .ok (.iconst 4, 1) := dk_7 (dk_at dksX9_appendText_1 2 rfl rfl)
theorem dX9_appendText_27 : decode cX9_appendText 27 = .ok (.if_icmp .ge 30, 3) := dk_162 0 30 (dk_at dksX9_appendText_1 3 rfl rfl)
theorem dX9_appendText_30 : decode cX9_appendText 30 = .ok (.aload_n 0, 1) := dk_42 (dk_at dksX9_appendText_1 6 rfl rfl)
theorem dX9_appendText_31 : decode cX9_appendText 31 = .ok (.getfield 32, 3) := dk_180 0 32 (dk_at dksX9_appendText_1 7 rfl rfl)
theorem dX9_appendText_34 : decode cX9_appendText 34 = .ok (.aload_n 0, 1) := dk_42 (dk_at dksX9_appendText_1 10 rfl rfl)
theorem dX9_appendText_35 : decode cX9_appendText 35 = .ok (.getfield 178, 3) := dk_180 0 178 (dk_at dksX9_appendText_1 11 rfl rfl)
theorem dX9_appendText_38 : decode cX9_appendText 38 = .ok (.iload_n 2, 1) := dk_28 (dk_at dksX9_appendText_1 14 rfl rfl)
theorem dX9_appendText_39 : decode cX9_appendText 39 = .ok (.iadd, 1) := dk_96 (dk_at dksX9_appendText_1 15 rfl rfl)
theorem dX9_appendText_40 : decode cX9_appendText 40 = .ok (.iload_n 1, 1) := dk_27 (dk_at dksX9_appendText_1 16 rfl rfl)
theorem dX9_appendText_41 : decode cX9_appendText 41 = .ok (.bipush 24, 2) := dk_16 24 (dk_at dksX9_appendText_1 17 rfl rfl)
theorem dX9_appendText_43 : decode cX9_appendText 43 = .ok (.bipush 8, 2) := dk_16 8 (dk_at dksX9_appendText_1 19 rfl rfl)
theorem dX9_appendText_45 : decode cX9_appendText 45 = .ok (.iload_n 2, 1) := dk_28 (dk_at dksX9_appendText_1 21 rfl rfl)
theorem dX9_appendText_46 : decode cX9_appendText 46 = .ok (.imul, 1) := dk_104 (dk_at dksX9_appendText_1 22 rfl rfl)
theorem dX9_appendText_47 : decode cX9_appendText 47 = .ok (.isub, 1) := dk_100 (dk_at dksX9_appendText_1 23 rfl rfl)
theorem dX9_appendText_48 : decode cX9_appendText 48 = .ok (.ishr, 1) := dk_122 (dk_at dksX9_appendText_2 0 rfl rfl)
theorem dX9_appendText_49 : decode cX9_appendText 49 = .ok (.i2b, 1) := dk_145 (dk_at dksX9_appendText_2 1 rfl rfl)
theorem dX9_appendText_50 : decode cX9_appendText 50 = .ok (.bastore, 1) := dk_84 (dk_at dksX9_appendText_2 2 rfl rfl)
theorem dX9_appendText_51 : decode cX9_appendText 51 = .ok (.iinc 2 1, 3) := dk_132 2 1 (dk_at dksX9_appendText_2 3 rfl rfl)
theorem dX9_appendText_54 : decode cX9_appendText 54 = .ok (.goto (-29), 3) := dk_167 255 227 (dk_at dksX9_appendText_2 6 rfl rfl)
theorem dX9_appendText_57 : decode cX9_appendText 57 = .ok (.aload_n 0, 1) := dk_42 (dk_at dksX9_appendText_2 9 rfl rfl)
theorem dX9_appendText_58 : decode cX9_appendText 58 = .ok (.dup, 1) := dk_89 (dk_at dksX9_appendText_2 10 rfl rfl)
theorem dX9_appendText_59 : decode cX9_appendText 59 = .ok (.getfield 178, 3) := dk_180 0 178 (dk_at dksX9_appendText_2 11 rfl rfl)
theorem dX9_appendText_62 : decode cX9_appendText 62 = .ok (.iconst 4, 1) := dk_7 (dk_at dksX9_appendText_2 14 rfl rfl)
theorem dX9_appendText_63 : decode cX9_appendText 63 = .ok (.iadd, 1) := dk_96 (dk_at dksX9_appendText_2 15 rfl rfl)
theorem dX9_appendText_64 : decode cX9_appendText 64 = .ok (.putfield 178, 3) := dk_181 0 178 (dk_at dksX9_appendText_2 16 rfl rfl)
theorem dX9_appendText_67 : decode cX9_appendText 67 = .ok (.aload_n 0, 1) := dk_42 (dk_at dksX9_appendText_2 19 rfl rfl)
theorem dX9_appendText_68 : decode cX9_appendText 68 = .ok (.getfield 178, 3) := dk_180 0 178 (dk_at dksX9_appendText_2 20 rfl rfl)
theorem dX9_appendText_71 : decode cX9_appendText 71 = .ok (.ireturn, 1) := dk_172 (dk_at dksX9_appendText_2 23 rfl rfl)
abbrev cX9_fail : ByteArray := prog_16_method_7_code
def yX9_fail : MethodName := ⟨RX9, "fail", "(I)I"⟩
def dkwX9_fail_0 : List UInt8 := [42, 27, 181, 0, 77, 3, 172]
abbrev dktX9_fail_0 : List UInt8 := dkwX9_fail_0 ++ []
theorem dksX9_fail_0 : cX9_fail.data.toList.drop 0 = dktX9_fail_0 := by decide +kernel
theorem dX9_fail_0 : decode cX9_fail 0 = .ok (.aload_n 0, 1) := dk_42 (dk_at dksX9_fail_0 0 rfl rfl)
theorem dX9_fail_1 : decode cX9_fail 1 = .ok (.iload_n 1, 1) := dk_27 (dk_at dksX9_fail_0 1 rfl rfl)
theorem dX9_fail_2 : decode cX9_fail 2 = .ok (.putfield 77, 3) := dk_181 0 77 (dk_at dksX9_fail_0 2 rfl rfl)
theorem dX9_fail_5 : decode cX9_fail 5 = .ok (.iconst 0, 1) := dk_3 (dk_at dksX9_fail_0 5 rfl rfl)
theorem dX9_fail_6 : decode cX9_fail 6 = .ok (.ireturn, 1) := dk_172 (dk_at dksX9_fail_0 6 rfl rfl)
abbrev cX9_truncateText : ByteArray := prog_16_method_48_code
def yX9_truncateText : MethodName := ⟨RX9, "truncateText", "(I)I"⟩
def dkwX9_truncateText_1 : List UInt8 := [27, 181, 0, 178, 42, 180, 0, 178, 172]
abbrev dktX9_truncateText_1 : List UInt8 := dkwX9_truncateText_1 ++ []
def dkwX9_truncateText_0 : List UInt8 := [42, 3, 181, 0, 77, 27, 3, 42, 180, 0, 178, 184, 0, 88, 154, 0, 9, 42, 4, 182, 0, 181, 172, 42]
abbrev dktX9_truncateText_0 : List UInt8 := dkwX9_truncateText_0 ++ dktX9_truncateText_1
theorem dksX9_truncateText_0 : cX9_truncateText.data.toList.drop 0 = dktX9_truncateText_0 := by decide +kernel
theorem dksX9_truncateText_1 : cX9_truncateText.data.toList.drop 24 = dktX9_truncateText_1 := dk_seg dksX9_truncateText_0 24 rfl rfl
theorem dX9_truncateText_0 : decode cX9_truncateText 0 = .ok (.aload_n 0, 1) := dk_42 (dk_at dksX9_truncateText_0 0 rfl rfl)
theorem dX9_truncateText_1 : decode cX9_truncateText 1 = .ok (.iconst 0, 1) := dk_3 (dk_at dksX9_truncateText_0 1 rfl rfl)
theorem dX9_truncateText_2 : decode cX9_truncateText 2 = .ok (.putfield 77, 3) := dk_181 0 77 (dk_at dksX9_truncateText_0 2 rfl rfl)
theorem dX9_truncateText_5 : decode cX9_truncateText 5 = .ok (.iload_n 1, 1) := dk_27 (dk_at dksX9_truncateText_0 5 rfl rfl)
theorem dX9_truncateText_6 : decode cX9_truncateText 6 = .ok (.iconst 0, 1) := dk_3 (dk_at dksX9_truncateText_0 6 rfl rfl)
theorem dX9_truncateText_7 : decode cX9_truncateText 7 = .ok (.aload_n 0, 1) := dk_42 (dk_at dksX9_truncateText_0 7 rfl rfl)
theorem dX9_truncateText_8 : decode cX9_truncateText 8 = .ok (.getfield 178, 3) := dk_180 0 178 (dk_at dksX9_truncateText_0 8 rfl rfl)
theorem dX9_truncateText_11 : decode cX9_truncateText 11 = .ok (.invokestatic 88, 3) := dk_184 0 88 (dk_at dksX9_truncateText_0 11 rfl rfl)
theorem dX9_truncateText_14 : decode cX9_truncateText 14 = .ok (.ifCond .ne 9, 3) := dk_154 0 9 (dk_at dksX9_truncateText_0 14 rfl rfl)
theorem dX9_truncateText_17 : decode cX9_truncateText 17 = .ok (.aload_n 0, 1) := dk_42 (dk_at dksX9_truncateText_0 17 rfl rfl)
theorem dX9_truncateText_18 : decode cX9_truncateText 18 = .ok (.iconst 1, 1) := dk_4 (dk_at dksX9_truncateText_0 18 rfl rfl)
theorem dX9_truncateText_19 : decode cX9_truncateText 19 = .ok (.invokevirtual 181, 3) := dk_182 0 181 (dk_at dksX9_truncateText_0 19 rfl rfl)
theorem dX9_truncateText_22 : decode cX9_truncateText 22 = .ok (.ireturn, 1) := dk_172 (dk_at dksX9_truncateText_0 22 rfl rfl)
theorem dX9_truncateText_23 : decode cX9_truncateText 23 = .ok (.aload_n 0, 1) := dk_42 (dk_at dksX9_truncateText_0 23 rfl rfl)
theorem dX9_truncateText_24 : decode cX9_truncateText 24 = .ok (.iload_n 1, 1) := dk_27 (dk_at dksX9_truncateText_1 0 rfl rfl)
theorem dX9_truncateText_25 : decode cX9_truncateText 25 = .ok (.putfield 178, 3) := dk_181 0 178 (dk_at dksX9_truncateText_1 1 rfl rfl)
theorem dX9_truncateText_28 : decode cX9_truncateText 28 = .ok (.aload_n 0, 1) := dk_42 (dk_at dksX9_truncateText_1 4 rfl rfl)
theorem dX9_truncateText_29 : decode cX9_truncateText 29 = .ok (.getfield 178, 3) := dk_180 0 178 (dk_at dksX9_truncateText_1 5 rfl rfl)
theorem dX9_truncateText_32 : decode cX9_truncateText 32 = .ok (.ireturn, 1) := dk_172 (dk_at dksX9_truncateText_1 8 rfl rfl)
abbrev cX9_isBetween : ByteArray := prog_16_method_8_code
def yX9_isBetween : MethodName := ⟨RX9, "isBetween", "(III)Z"⟩
def dkwX9_isBetween_0 : List UInt8 := [26, 27, 161, 0, 12, 26, 28, 163, 0, 7, 4, 167, 0, 4, 3, 172]
abbrev dktX9_isBetween_0 : List UInt8 := dkwX9_isBetween_0 ++ []
theorem dksX9_isBetween_0 : cX9_isBetween.data.toList.drop 0 = dktX9_isBetween_0 := by decide +kernel
theorem dX9_isBetween_0 : decode cX9_isBetween 0 = .ok (.iload_n 0, 1) := dk_26 (dk_at dksX9_isBetween_0 0 rfl rfl)
theorem dX9_isBetween_1 : decode cX9_isBetween 1 = .ok (.iload_n 1, 1) := dk_27 (dk_at dksX9_isBetween_0 1 rfl rfl)
theorem dX9_isBetween_2 : decode cX9_isBetween 2 = .ok (.if_icmp .lt 12, 3) := dk_161 0 12 (dk_at dksX9_isBetween_0 2 rfl rfl)
theorem dX9_isBetween_5 : decode cX9_isBetween 5 = .ok (.iload_n 0, 1) := dk_26 (dk_at dksX9_isBetween_0 5 rfl rfl)
theorem dX9_isBetween_6 : decode cX9_isBetween 6 = .ok (.iload_n 2, 1) := dk_28 (dk_at dksX9_isBetween_0 6 rfl rfl)
theorem dX9_isBetween_7 : decode cX9_isBetween 7 = .ok (.if_icmp .gt 7, 3) := dk_163 0 7 (dk_at dksX9_isBetween_0 7 rfl rfl)
theorem dX9_isBetween_10 : decode cX9_isBetween 10 = .ok (.iconst 1, 1) := dk_4 (dk_at dksX9_isBetween_0 10 rfl rfl)
theorem dX9_isBetween_11 : decode cX9_isBetween 11 = .ok (.goto 4, 3) := dk_167 0 4 (dk_at dksX9_isBetween_0 11 rfl rfl)
theorem dX9_isBetween_14 : decode cX9_isBetween 14 = .ok (.iconst 0, 1) := dk_3 (dk_at dksX9_isBetween_0 14 rfl rfl)
theorem dX9_isBetween_15 : decode cX9_isBetween 15 = .ok (.ireturn, 1) := dk_172 (dk_at dksX9_isBetween_0 15 rfl rfl)
abbrev cX9_load : ByteArray := prog_16_method_69_code
def yX9_load : MethodName := ⟨RX9, "load", "()I"⟩
def dkwX9_load_3 : List UInt8 := [184, 1, 26, 2, 172, 42, 3, 181, 1, 36, 42, 180, 0, 7, 16, 6, 46, 172]
abbrev dktX9_load_3 : List UInt8 := dkwX9_load_3 ++ []
def dkwX9_load_2 : List UInt8 := [42, 3, 181, 0, 178, 42, 182, 0, 187, 154, 0, 18, 42, 180, 0, 13, 3, 42, 180, 0, 7, 3]
abbrev dktX9_load_2 : List UInt8 := dkwX9_load_2 ++ dktX9_load_3
def dkwX9_load_1 : List UInt8 := [27, 17, 0, 216, 162, 0, 16, 42, 180, 0, 7, 27, 3, 79, 132, 1, 1, 167, 255, 239, 42, 182, 1, 33]
abbrev dktX9_load_1 : List UInt8 := dkwX9_load_1 ++ dktX9_load_2
def dkwX9_load_0 : List UInt8 := [42, 3, 181, 0, 77, 42, 180, 0, 7, 3, 42, 180, 0, 13, 3, 184, 1, 26, 42, 182, 1, 30, 3, 60]
abbrev dktX9_load_0 : List UInt8 := dkwX9_load_0 ++ dktX9_load_1
theorem dksX9_load_0 : cX9_load.data.toList.drop 0 = dktX9_load_0 := by decide +kernel
theorem dksX9_load_1 : cX9_load.data.toList.drop 24 = dktX9_load_1 := dk_seg dksX9_load_0 24 rfl rfl
theorem dksX9_load_2 : cX9_load.data.toList.drop 48 = dktX9_load_2 := dk_seg dksX9_load_1 24 rfl rfl
theorem dksX9_load_3 : cX9_load.data.toList.drop 70 = dktX9_load_3 := dk_seg dksX9_load_2 22 rfl rfl
theorem dX9_load_0 : decode cX9_load 0 = .ok (.aload_n 0, 1) := dk_42 (dk_at dksX9_load_0 0 rfl rfl)
theorem dX9_load_1 : decode cX9_load 1 = .ok (.iconst 0, 1) := dk_3 (dk_at dksX9_load_0 1 rfl rfl)
theorem dX9_load_2 : decode cX9_load 2 = .ok (.putfield 77, 3) := dk_181 0 77 (dk_at dksX9_load_0 2 rfl rfl)
theorem dX9_load_5 : decode cX9_load 5 = .ok (.aload_n 0, 1) := dk_42 (dk_at dksX9_load_0 5 rfl rfl)
theorem dX9_load_6 : decode cX9_load 6 = .ok (.getfield 7, 3) := dk_180 0 7 (dk_at dksX9_load_0 6 rfl rfl)
theorem dX9_load_9 : decode cX9_load 9 = .ok (.iconst 0, 1) := dk_3 (dk_at dksX9_load_0 9 rfl rfl)
theorem dX9_load_10 : decode cX9_load 10 = .ok (.aload_n 0, 1) := dk_42 (dk_at dksX9_load_0 10 rfl rfl)
theorem dX9_load_11 : decode cX9_load 11 = .ok (.getfield 13, 3) := dk_180 0 13 (dk_at dksX9_load_0 11 rfl rfl)
theorem dX9_load_14 : decode cX9_load 14 = .ok (.iconst 0, 1) := dk_3 (dk_at dksX9_load_0 14 rfl rfl)
theorem dX9_load_15 : decode cX9_load 15 = .ok (.invokestatic 282, 3) := dk_184 1 26 (dk_at dksX9_load_0 15 rfl rfl)
theorem dX9_load_18 : decode cX9_load 18 = .ok (.aload_n 0, 1) := dk_42 (dk_at dksX9_load_0 18 rfl rfl)
theorem dX9_load_19 : decode cX9_load 19 = .ok (.invokevirtual 286, 3) := dk_182 1 30 (dk_at dksX9_load_0 19 rfl rfl)
theorem dX9_load_22 : decode cX9_load 22 = .ok (.iconst 0, 1) := dk_3 (dk_at dksX9_load_0 22 rfl rfl)
theorem dX9_load_23 : decode cX9_load 23 = .ok (.istore_n 1, 1) := dk_60 (dk_at dksX9_load_0 23 rfl rfl)
theorem dX9_load_24 : decode cX9_load 24 = .ok (.iload_n 1, 1) := dk_27 (dk_at dksX9_load_1 0 rfl rfl)
theorem dX9_load_25 : decode cX9_load 25 = .ok (.sipush 216, 3) := dk_17 0 216 (dk_at dksX9_load_1 1 rfl rfl)
theorem dX9_load_28 : decode cX9_load 28 = .ok (.if_icmp .ge 16, 3) := dk_162 0 16 (dk_at dksX9_load_1 4 rfl rfl)
theorem dX9_load_31 : decode cX9_load 31 = .ok (.aload_n 0, 1) := dk_42 (dk_at dksX9_load_1 7 rfl rfl)
theorem dX9_load_32 : decode cX9_load 32 = .ok (.getfield 7, 3) := dk_180 0 7 (dk_at dksX9_load_1 8 rfl rfl)
theorem dX9_load_35 : decode cX9_load 35 = .ok (.iload_n 1, 1) := dk_27 (dk_at dksX9_load_1 11 rfl rfl)
theorem dX9_load_36 : decode cX9_load 36 = .ok (.iconst 0, 1) := dk_3 (dk_at dksX9_load_1 12 rfl rfl)
theorem dX9_load_37 : decode cX9_load 37 = .ok (.iastore, 1) := dk_79 (dk_at dksX9_load_1 13 rfl rfl)
theorem dX9_load_38 : decode cX9_load 38 = .ok (.iinc 1 1, 3) := dk_132 1 1 (dk_at dksX9_load_1 14 rfl rfl)
theorem dX9_load_41 : decode cX9_load 41 = .ok (.goto (-17), 3) := dk_167 255 239 (dk_at dksX9_load_1 17 rfl rfl)
theorem dX9_load_44 : decode cX9_load 44 = .ok (.aload_n 0, 1) := dk_42 (dk_at dksX9_load_1 20 rfl rfl)
theorem dX9_load_45 : decode cX9_load 45 = .ok (.invokevirtual 289, 3) := dk_182 1 33 (dk_at dksX9_load_1 21 rfl rfl)
theorem dX9_load_48 : decode cX9_load 48 = .ok (.aload_n 0, 1) := dk_42 (dk_at dksX9_load_2 0 rfl rfl)
theorem dX9_load_49 : decode cX9_load 49 = .ok (.iconst 0, 1) := dk_3 (dk_at dksX9_load_2 1 rfl rfl)
theorem dX9_load_50 : decode cX9_load 50 = .ok (.putfield 178, 3) := dk_181 0 178 (dk_at dksX9_load_2 2 rfl rfl)
theorem dX9_load_53 : decode cX9_load 53 = .ok (.aload_n 0, 1) := dk_42 (dk_at dksX9_load_2 5 rfl rfl)
theorem dX9_load_54 : decode cX9_load 54 = .ok (.invokevirtual 187, 3) := dk_182 0 187 (dk_at dksX9_load_2 6 rfl rfl)
theorem dX9_load_57 : decode cX9_load 57 = .ok (.ifCond .ne 18, 3) := dk_154 0 18 (dk_at dksX9_load_2 9 rfl rfl)
theorem dX9_load_60 : decode cX9_load 60 = .ok (.aload_n 0, 1) := dk_42 (dk_at dksX9_load_2 12 rfl rfl)
theorem dX9_load_61 : decode cX9_load 61 = .ok (.getfield 13, 3) := dk_180 0 13 (dk_at dksX9_load_2 13 rfl rfl)
theorem dX9_load_64 : decode cX9_load 64 = .ok (.iconst 0, 1) := dk_3 (dk_at dksX9_load_2 16 rfl rfl)
theorem dX9_load_65 : decode cX9_load 65 = .ok (.aload_n 0, 1) := dk_42 (dk_at dksX9_load_2 17 rfl rfl)
theorem dX9_load_66 : decode cX9_load 66 = .ok (.getfield 7, 3) := dk_180 0 7 (dk_at dksX9_load_2 18 rfl rfl)
theorem dX9_load_69 : decode cX9_load 69 = .ok (.iconst 0, 1) := dk_3 (dk_at dksX9_load_2 21 rfl rfl)
theorem dX9_load_70 : decode cX9_load 70 = .ok (.invokestatic 282, 3) := dk_184 1 26 (dk_at dksX9_load_3 0 rfl rfl)
theorem dX9_load_73 : decode cX9_load 73 = .ok (.iconst (-1), 1) := dk_2 (dk_at dksX9_load_3 3 rfl rfl)
theorem dX9_load_74 : decode cX9_load 74 = .ok (.ireturn, 1) := dk_172 (dk_at dksX9_load_3 4 rfl rfl)
theorem dX9_load_75 : decode cX9_load 75 = .ok (.aload_n 0, 1) := dk_42 (dk_at dksX9_load_3 5 rfl rfl)
theorem dX9_load_76 : decode cX9_load 76 = .ok (.iconst 0, 1) := dk_3 (dk_at dksX9_load_3 6 rfl rfl)
theorem dX9_load_77 : decode cX9_load 77 = .ok (.putfield 292, 3) := dk_181 1 36 (dk_at dksX9_load_3 7 rfl rfl)
theorem dX9_load_80 : decode cX9_load 80 = .ok (.aload_n 0, 1) := dk_42 (dk_at dksX9_load_3 10 rfl rfl)
theorem dX9_load_81 : decode cX9_load 81 = .ok (.getfield 7, 3) := dk_180 0 7 (dk_at dksX9_load_3 11 rfl rfl)
theorem dX9_load_84 : decode cX9_load 84 = .ok (.bipush 6, 2) := dk_16 6 (dk_at dksX9_load_3 14 rfl rfl)
theorem dX9_load_86 : decode cX9_load 86 = .ok (.iaload, 1) := dk_46 (dk_at dksX9_load_3 16 rfl rfl)
theorem dX9_load_87 : decode cX9_load 87 = .ok (.ireturn, 1) := dk_172 (dk_at dksX9_load_3 17 rfl rfl)
abbrev cX9_copy : ByteArray := prog_16_method_9_code
def yX9_copy : MethodName := ⟨RX9, "copy", "([II[II)V"⟩
def dkwX9_copy_1 : List UInt8 := [132, 4, 1, 167, 255, 233, 177]
abbrev dktX9_copy_1 : List UInt8 := dkwX9_copy_1 ++ []
def dkwX9_copy_0 : List UInt8 := [3, 54, 4, 21, 4, 17, 0, 216, 162, 0, 21, 44, 29, 21, 4, 96, 42, 27, 21, 4, 96, 46, 79]
abbrev dktX9_copy_0 : List UInt8 := dkwX9_copy_0 ++ dktX9_copy_1
theorem dksX9_copy_0 : cX9_copy.data.toList.drop 0 = dktX9_copy_0 := by decide +kernel
theorem dksX9_copy_1 : cX9_copy.data.toList.drop 23 = dktX9_copy_1 := dk_seg dksX9_copy_0 23 rfl rfl
theorem dX9_copy_0 : decode cX9_copy 0 = .ok (.iconst 0, 1) := dk_3 (dk_at dksX9_copy_0 0 rfl rfl)
theorem dX9_copy_1 : decode cX9_copy 1 = .ok (.istore 4, 2) := dk_54 4 (dk_at dksX9_copy_0 1 rfl rfl)
theorem dX9_copy_3 : decode cX9_copy 3 = .ok (.iload 4, 2) := dk_21 4 (dk_at dksX9_copy_0 3 rfl rfl)
theorem dX9_copy_5 : decode cX9_copy 5 = .ok (.sipush 216, 3) := dk_17 0 216 (dk_at dksX9_copy_0 5 rfl rfl)
theorem dX9_copy_8 : decode cX9_copy 8 = .ok (.if_icmp .ge 21, 3) := dk_162 0 21 (dk_at dksX9_copy_0 8 rfl rfl)
theorem dX9_copy_11 : decode cX9_copy 11 = .ok (.aload_n 2, 1) := dk_44 (dk_at dksX9_copy_0 11 rfl rfl)
theorem dX9_copy_12 : decode cX9_copy 12 = .ok (.iload_n 3, 1) := dk_29 (dk_at dksX9_copy_0 12 rfl rfl)
theorem dX9_copy_13 : decode cX9_copy 13 = .ok (.iload 4, 2) := dk_21 4 (dk_at dksX9_copy_0 13 rfl rfl)
theorem dX9_copy_15 : decode cX9_copy 15 = .ok (.iadd, 1) := dk_96 (dk_at dksX9_copy_0 15 rfl rfl)
theorem dX9_copy_16 : decode cX9_copy 16 = .ok (.aload_n 0, 1) := dk_42 (dk_at dksX9_copy_0 16 rfl rfl)
theorem dX9_copy_17 : decode cX9_copy 17 = .ok (.iload_n 1, 1) := dk_27 (dk_at dksX9_copy_0 17 rfl rfl)
theorem dX9_copy_18 : decode cX9_copy 18 = .ok (.iload 4, 2) := dk_21 4 (dk_at dksX9_copy_0 18 rfl rfl)
theorem dX9_copy_20 : decode cX9_copy 20 = .ok (.iadd, 1) := dk_96 (dk_at dksX9_copy_0 20 rfl rfl)
theorem dX9_copy_21 : decode cX9_copy 21 = .ok (.iaload, 1) := dk_46 (dk_at dksX9_copy_0 21 rfl rfl)
theorem dX9_copy_22 : decode cX9_copy 22 = .ok (.iastore, 1) := dk_79 (dk_at dksX9_copy_0 22 rfl rfl)
theorem dX9_copy_23 : decode cX9_copy 23 = .ok (.iinc 4 1, 3) := dk_132 4 1 (dk_at dksX9_copy_1 0 rfl rfl)
theorem dX9_copy_26 : decode cX9_copy 26 = .ok (.goto (-23), 3) := dk_167 255 233 (dk_at dksX9_copy_1 3 rfl rfl)
theorem dX9_copy_29 : decode cX9_copy 29 = .ok (.return_, 1) := dk_177 (dk_at dksX9_copy_1 6 rfl rfl)
abbrev cX9_startText : ByteArray := prog_16_method_55_code
def yX9_startText : MethodName := ⟨RX9, "startText", "()V"⟩
def dkwX9_startText_1 : List UInt8 := [177]
abbrev dktX9_startText_1 : List UInt8 := dkwX9_startText_1 ++ []
def dkwX9_startText_0 : List UInt8 := [42, 3, 181, 0, 184, 42, 2, 181, 0, 36, 42, 3, 181, 0, 194, 42, 3, 181, 0, 213, 42, 182, 0, 216]
abbrev dktX9_startText_0 : List UInt8 := dkwX9_startText_0 ++ dktX9_startText_1
theorem dksX9_startText_0 : cX9_startText.data.toList.drop 0 = dktX9_startText_0 := by decide +kernel
theorem dksX9_startText_1 : cX9_startText.data.toList.drop 24 = dktX9_startText_1 := dk_seg dksX9_startText_0 24 rfl rfl
theorem dX9_startText_0 : decode cX9_startText 0 = .ok (.aload_n 0, 1) := dk_42 (dk_at dksX9_startText_0 0 rfl rfl)
theorem dX9_startText_1 : decode cX9_startText 1 = .ok (.iconst 0, 1) := dk_3 (dk_at dksX9_startText_0 1 rfl rfl)
theorem dX9_startText_2 : decode cX9_startText 2 = .ok (.putfield 184, 3) := dk_181 0 184 (dk_at dksX9_startText_0 2 rfl rfl)
theorem dX9_startText_5 : decode cX9_startText 5 = .ok (.aload_n 0, 1) := dk_42 (dk_at dksX9_startText_0 5 rfl rfl)
theorem dX9_startText_6 : decode cX9_startText 6 = .ok (.iconst (-1), 1) := dk_2 (dk_at dksX9_startText_0 6 rfl rfl)
theorem dX9_startText_7 : decode cX9_startText 7 = .ok (.putfield 36, 3) := dk_181 0 36 (dk_at dksX9_startText_0 7 rfl rfl)
theorem dX9_startText_10 : decode cX9_startText 10 = .ok (.aload_n 0, 1) := dk_42 (dk_at dksX9_startText_0 10 rfl rfl)
theorem dX9_startText_11 : decode cX9_startText 11 = .ok (.iconst 0, 1) := dk_3 (dk_at dksX9_startText_0 11 rfl rfl)
theorem dX9_startText_12 : decode cX9_startText 12 = .ok (.putfield 194, 3) := dk_181 0 194 (dk_at dksX9_startText_0 12 rfl rfl)
theorem dX9_startText_15 : decode cX9_startText 15 = .ok (.aload_n 0, 1) := dk_42 (dk_at dksX9_startText_0 15 rfl rfl)
theorem dX9_startText_16 : decode cX9_startText 16 = .ok (.iconst 0, 1) := dk_3 (dk_at dksX9_startText_0 16 rfl rfl)
theorem dX9_startText_17 : decode cX9_startText 17 = .ok (.putfield 213, 3) := dk_181 0 213 (dk_at dksX9_startText_0 17 rfl rfl)
theorem dX9_startText_20 : decode cX9_startText 20 = .ok (.aload_n 0, 1) := dk_42 (dk_at dksX9_startText_0 20 rfl rfl)
theorem dX9_startText_21 : decode cX9_startText 21 = .ok (.invokevirtual 216, 3) := dk_182 0 216 (dk_at dksX9_startText_0 21 rfl rfl)
theorem dX9_startText_24 : decode cX9_startText 24 = .ok (.return_, 1) := dk_177 (dk_at dksX9_startText_1 0 rfl rfl)
abbrev cX9_proceed : ByteArray := prog_16_method_54_code
def yX9_proceed : MethodName := ⟨RX9, "proceed", "()V"⟩
def dkwX9_proceed_9 : List UInt8 := [181, 0, 200, 177]
abbrev dktX9_proceed_9 : List UInt8 := dkwX9_proceed_9 ++ []
def dkwX9_proceed_8 : List UInt8 := [180, 0, 194, 4, 96, 181, 0, 194, 167, 255, 204, 42, 27, 16, 59, 160, 0, 7, 6, 167, 0, 4, 7]
abbrev dktX9_proceed_8 : List UInt8 := dkwX9_proceed_8 ++ dktX9_proceed_9
def dkwX9_proceed_7 : List UInt8 := [180, 0, 209, 104, 42, 42, 180, 0, 194, 182, 0, 197, 96, 16, 48, 100, 184, 0, 110, 181, 0, 209, 42, 89]
abbrev dktX9_proceed_7 : List UInt8 := dkwX9_proceed_7 ++ dktX9_proceed_8
def dkwX9_proceed_6 : List UInt8 := [181, 0, 209, 42, 42, 180, 0, 194, 182, 0, 197, 184, 0, 206, 153, 0, 59, 42, 18, 212, 16, 10, 42]
abbrev dktX9_proceed_6 : List UInt8 := dkwX9_proceed_6 ++ dktX9_proceed_7
def dkwX9_proceed_5 : List UInt8 := [181, 0, 194, 167, 255, 232, 27, 184, 0, 206, 153, 0, 71, 42, 5, 181, 0, 200, 42, 27, 16, 48, 100]
abbrev dktX9_proceed_5 : List UInt8 := dkwX9_proceed_5 ++ dktX9_proceed_6
def dkwX9_proceed_4 : List UInt8 := [181, 0, 200, 42, 42, 180, 0, 194, 182, 0, 197, 184, 0, 203, 153, 0, 106, 42, 89, 180, 0, 194, 4, 96]
abbrev dktX9_proceed_4 : List UInt8 := dkwX9_proceed_4 ++ dktX9_proceed_5
def dkwX9_proceed_3 : List UInt8 := [181, 0, 200, 177, 42, 89, 180, 0, 194, 4, 96, 181, 0, 194, 27, 184, 0, 203, 153, 0, 35, 42, 4]
abbrev dktX9_proceed_3 : List UInt8 := dkwX9_proceed_3 ++ dktX9_proceed_4
def dkwX9_proceed_2 : List UInt8 := [42, 42, 180, 0, 194, 181, 0, 191, 42, 42, 180, 0, 191, 182, 0, 197, 60, 27, 2, 160, 0, 9, 42, 3]
abbrev dktX9_proceed_2 : List UInt8 := dkwX9_proceed_2 ++ dktX9_proceed_3
def dkwX9_proceed_1 : List UInt8 := [180, 0, 194, 182, 0, 197, 16, 10, 160, 0, 16, 42, 89, 180, 0, 194, 4, 96, 181, 0, 194, 167, 255, 220]
abbrev dktX9_proceed_1 : List UInt8 := dkwX9_proceed_1 ++ dktX9_proceed_2
def dkwX9_proceed_0 : List UInt8 := [42, 182, 0, 187, 154, 0, 4, 177, 42, 42, 180, 0, 194, 182, 0, 197, 16, 32, 159, 0, 16, 42, 42]
abbrev dktX9_proceed_0 : List UInt8 := dkwX9_proceed_0 ++ dktX9_proceed_1
theorem dksX9_proceed_0 : cX9_proceed.data.toList.drop 0 = dktX9_proceed_0 := by decide +kernel
theorem dksX9_proceed_1 : cX9_proceed.data.toList.drop 23 = dktX9_proceed_1 := dk_seg dksX9_proceed_0 23 rfl rfl
theorem dksX9_proceed_2 : cX9_proceed.data.toList.drop 47 = dktX9_proceed_2 := dk_seg dksX9_proceed_1 24 rfl rfl
theorem dksX9_proceed_3 : cX9_proceed.data.toList.drop 71 = dktX9_proceed_3 := dk_seg dksX9_proceed_2 24 rfl rfl
theorem dksX9_proceed_4 : cX9_proceed.data.toList.drop 94 = dktX9_proceed_4 := dk_seg dksX9_proceed_3 23 rfl rfl
theorem dksX9_proceed_5 : cX9_proceed.data.toList.drop 118 = dktX9_proceed_5 := dk_seg dksX9_proceed_4 24 rfl rfl
theorem dksX9_proceed_6 : cX9_proceed.data.toList.drop 141 = dktX9_proceed_6 := dk_seg dksX9_proceed_5 23 rfl rfl
theorem dksX9_proceed_7 : cX9_proceed.data.toList.drop 164 = dktX9_proceed_7 := dk_seg dksX9_proceed_6 23 rfl rfl
theorem dksX9_proceed_8 : cX9_proceed.data.toList.drop 188 = dktX9_proceed_8 := dk_seg dksX9_proceed_7 24 rfl rfl
theorem dksX9_proceed_9 : cX9_proceed.data.toList.drop 211 = dktX9_proceed_9 := dk_seg dksX9_proceed_8 23 rfl rfl
theorem dX9_proceed_0 : decode cX9_proceed 0 = .ok (.aload_n 0, 1) := dk_42 (dk_at dksX9_proceed_0 0 rfl rfl)
theorem dX9_proceed_1 : decode cX9_proceed 1 = .ok (.invokevirtual 187, 3) := dk_182 0 187 (dk_at dksX9_proceed_0 1 rfl rfl)
theorem dX9_proceed_4 : decode cX9_proceed 4 = .ok (.ifCond .ne 4, 3) := dk_154 0 4 (dk_at dksX9_proceed_0 4 rfl rfl)
theorem dX9_proceed_7 : decode cX9_proceed 7 = .ok (.return_, 1) := dk_177 (dk_at dksX9_proceed_0 7 rfl rfl)
theorem dX9_proceed_8 : decode cX9_proceed 8 = .ok (.aload_n 0, 1) := dk_42 (dk_at dksX9_proceed_0 8 rfl rfl)
theorem dX9_proceed_9 : decode cX9_proceed 9 = .ok (.aload_n 0, 1) := dk_42 (dk_at dksX9_proceed_0 9 rfl rfl)
theorem dX9_proceed_10 : decode cX9_proceed 10 = .ok (.getfield 194, 3) := dk_180 0 194 (dk_at dksX9_proceed_0 10 rfl rfl)
theorem dX9_proceed_13 : decode cX9_proceed 13 = .ok (.invokevirtual 197, 3) := dk_182 0 197 (dk_at dksX9_proceed_0 13 rfl rfl)
theorem dX9_proceed_16 : decode cX9_proceed 16 = .ok (.bipush 32, 2) := dk_16 32 (dk_at dksX9_proceed_0 16 rfl rfl)
theorem dX9_proceed_18 : decode cX9_proceed 18 = .ok (.if_icmp .eq 16, 3) := dk_159 0 16 (dk_at dksX9_proceed_0 18 rfl rfl)
theorem dX9_proceed_21 : decode cX9_proceed 21 = .ok (.aload_n 0, 1) := dk_42 (dk_at dksX9_proceed_0 21 rfl rfl)
theorem dX9_proceed_22 : decode cX9_proceed 22 = .ok (.aload_n 0, 1) := dk_42 (dk_at dksX9_proceed_0 22 rfl rfl)
theorem dX9_proceed_23 : decode cX9_proceed 23 = .ok (.getfield 194, 3) := dk_180 0 194 (dk_at dksX9_proceed_1 0 rfl rfl)
theorem dX9_proceed_26 : decode cX9_proceed 26 = .ok (.invokevirtual 197, 3) := dk_182 0 197 (dk_at dksX9_proceed_1 3 rfl rfl)
theorem dX9_proceed_29 : decode cX9_proceed 29 = .ok (.bipush 10, 2) := dk_16 10 (dk_at dksX9_proceed_1 6 rfl rfl)
theorem dX9_proceed_31 : decode cX9_proceed 31 = .ok (.if_icmp .ne 16, 3) := dk_160 0 16 (dk_at dksX9_proceed_1 8 rfl rfl)
theorem dX9_proceed_34 : decode cX9_proceed 34 = .ok (.aload_n 0, 1) := dk_42 (dk_at dksX9_proceed_1 11 rfl rfl)
theorem dX9_proceed_35 : decode cX9_proceed 35 = .ok (.dup, 1) := dk_89 (dk_at dksX9_proceed_1 12 rfl rfl)
theorem dX9_proceed_36 : decode cX9_proceed 36 = .ok (.getfield 194, 3) := dk_180 0 194 (dk_at dksX9_proceed_1 13 rfl rfl)
theorem dX9_proceed_39 : decode cX9_proceed 39 = .ok (.iconst 1, 1) := dk_4 (dk_at dksX9_proceed_1 16 rfl rfl)
theorem dX9_proceed_40 : decode cX9_proceed 40 = .ok (.iadd, 1) := dk_96 (dk_at dksX9_proceed_1 17 rfl rfl)
theorem dX9_proceed_41 : decode cX9_proceed 41 = .ok (.putfield 194, 3) := dk_181 0 194 (dk_at dksX9_proceed_1 18 rfl rfl)
theorem dX9_proceed_44 : decode cX9_proceed 44 = .ok (.goto (-36), 3) := dk_167 255 220 (dk_at dksX9_proceed_1 21 rfl rfl)
theorem dX9_proceed_47 : decode cX9_proceed 47 = .ok (.aload_n 0, 1) := dk_42 (dk_at dksX9_proceed_2 0 rfl rfl)
theorem dX9_proceed_48 : decode cX9_proceed 48 = .ok (.aload_n 0, 1) := dk_42 (dk_at dksX9_proceed_2 1 rfl rfl)
theorem dX9_proceed_49 : decode cX9_proceed 49 = .ok (.getfield 194, 3) := dk_180 0 194 (dk_at dksX9_proceed_2 2 rfl rfl)
theorem dX9_proceed_52 : decode cX9_proceed 52 = .ok (.putfield 191, 3) := dk_181 0 191 (dk_at dksX9_proceed_2 5 rfl rfl)
theorem dX9_proceed_55 : decode cX9_proceed 55 = .ok (.aload_n 0, 1) := dk_42 (dk_at dksX9_proceed_2 8 rfl rfl)
theorem dX9_proceed_56 : decode cX9_proceed 56 = .ok (.aload_n 0, 1) := dk_42 (dk_at dksX9_proceed_2 9 rfl rfl)
theorem dX9_proceed_57 : decode cX9_proceed 57 = .ok (.getfield 191, 3) := dk_180 0 191 (dk_at dksX9_proceed_2 10 rfl rfl)
theorem dX9_proceed_60 : decode cX9_proceed 60 = .ok (.invokevirtual 197, 3) := dk_182 0 197 (dk_at dksX9_proceed_2 13 rfl rfl)
theorem dX9_proceed_63 : decode cX9_proceed 63 = .ok (.istore_n 1, 1) := dk_60 (dk_at dksX9_proceed_2 16 rfl rfl)
theorem dX9_proceed_64 : decode cX9_proceed 64 = .ok (.iload_n 1, 1) := dk_27 (dk_at dksX9_proceed_2 17 rfl rfl)
theorem dX9_proceed_65 : decode cX9_proceed 65 = .ok (.iconst (-1), 1) := dk_2 (dk_at dksX9_proceed_2 18 rfl rfl)
theorem dX9_proceed_66 : decode cX9_proceed 66 = .ok (.if_icmp .ne 9, 3) := dk_160 0 9 (dk_at dksX9_proceed_2 19 rfl rfl)
theorem dX9_proceed_69 : decode cX9_proceed 69 = .ok (.aload_n 0, 1) := dk_42 (dk_at dksX9_proceed_2 22 rfl rfl)
theorem dX9_proceed_70 : decode cX9_proceed 70 = .ok (.iconst 0, 1) := dk_3 (dk_at dksX9_proceed_2 23 rfl rfl)
theorem dX9_proceed_71 : decode cX9_proceed 71 = .ok (.putfield 200, 3) := dk_181 0 200 (dk_at dksX9_proceed_3 0 rfl rfl)
theorem dX9_proceed_74 : decode cX9_proceed 74 = .ok (.return_, 1) := dk_177 (dk_at dksX9_proceed_3 3 rfl rfl)
theorem dX9_proceed_75 : decode cX9_proceed 75 = .ok (.aload_n 0, 1) := dk_42 (dk_at dksX9_proceed_3 4 rfl rfl)
theorem dX9_proceed_76 : decode cX9_proceed 76 = .ok (.dup, 1) := dk_89 (dk_at dksX9_proceed_3 5 rfl rfl)
theorem dX9_proceed_77 : decode cX9_proceed 77 = .ok (.getfield 194, 3) := dk_180 0 194 (dk_at dksX9_proceed_3 6 rfl rfl)
theorem dX9_proceed_80 : decode cX9_proceed 80 = .ok (.iconst 1, 1) := dk_4 (dk_at dksX9_proceed_3 9 rfl rfl)
theorem dX9_proceed_81 : decode cX9_proceed 81 = .ok (.iadd, 1) := dk_96 (dk_at dksX9_proceed_3 10 rfl rfl)
theorem dX9_proceed_82 : decode cX9_proceed 82 = .ok (.putfield 194, 3) := dk_181 0 194 (dk_at dksX9_proceed_3 11 rfl rfl)
theorem dX9_proceed_85 : decode cX9_proceed 85 = .ok (.iload_n 1, 1) := dk_27 (dk_at dksX9_proceed_3 14 rfl rfl)
theorem dX9_proceed_86 : decode cX9_proceed 86 = .ok (.invokestatic 203, 3) := dk_184 0 203 (dk_at dksX9_proceed_3 15 rfl rfl)
theorem dX9_proceed_89 : decode cX9_proceed 89 = .ok (.ifCond .eq 35, 3) := dk_153 0 35 (dk_at dksX9_proceed_3 18 rfl rfl)
theorem dX9_proceed_92 : decode cX9_proceed 92 = .ok (.aload_n 0, 1) := dk_42 (dk_at dksX9_proceed_3 21 rfl rfl)
theorem dX9_proceed_93 : decode cX9_proceed 93 = .ok (.iconst 1, 1) := dk_4 (dk_at dksX9_proceed_3 22 rfl rfl)
theorem dX9_proceed_94 : decode cX9_proceed 94 = .ok (.putfield 200, 3) := dk_181 0 200 (dk_at dksX9_proceed_4 0 rfl rfl)
theorem dX9_proceed_97 : decode cX9_proceed 97 = .ok (.aload_n 0, 1) := dk_42 (dk_at dksX9_proceed_4 3 rfl rfl)
theorem dX9_proceed_98 : decode cX9_proceed 98 = .ok (.aload_n 0, 1) := dk_42 (dk_at dksX9_proceed_4 4 rfl rfl)
theorem dX9_proceed_99 : decode cX9_proceed 99 = .ok (.getfield 194, 3) := dk_180 0 194 (dk_at dksX9_proceed_4 5 rfl rfl)
theorem dX9_proceed_102 : decode cX9_proceed 102 = .ok (.invokevirtual 197, 3) := dk_182 0 197 (dk_at dksX9_proceed_4 8 rfl rfl)
theorem dX9_proceed_105 : decode cX9_proceed 105 = .ok (.invokestatic 203, 3) := dk_184 0 203 (dk_at dksX9_proceed_4 11 rfl rfl)
theorem dX9_proceed_108 : decode cX9_proceed 108 = .ok (.ifCond .eq 106, 3) := dk_153 0 106 (dk_at dksX9_proceed_4 14 rfl rfl)
theorem dX9_proceed_111 : decode cX9_proceed 111 = .ok (.aload_n 0, 1) := dk_42 (dk_at dksX9_proceed_4 17 rfl rfl)
theorem dX9_proceed_112 : decode cX9_proceed 112 = .ok (.dup, 1) := dk_89 (dk_at dksX9_proceed_4 18 rfl rfl)
theorem dX9_proceed_113 : decode cX9_proceed 113 = .ok (.getfield 194, 3) := dk_180 0 194 (dk_at dksX9_proceed_4 19 rfl rfl)
theorem dX9_proceed_116 : decode cX9_proceed 116 = .ok (.iconst 1, 1) := dk_4 (dk_at dksX9_proceed_4 22 rfl rfl)
theorem dX9_proceed_117 : decode cX9_proceed 117 = .ok (.iadd, 1) := dk_96 (dk_at dksX9_proceed_4 23 rfl rfl)
theorem dX9_proceed_118 : decode cX9_proceed 118 = .ok (.putfield 194, 3) := dk_181 0 194 (dk_at dksX9_proceed_5 0 rfl rfl)
theorem dX9_proceed_121 : decode cX9_proceed 121 = .ok (.goto (-24), 3) := dk_167 255 232 (dk_at dksX9_proceed_5 3 rfl rfl)
theorem dX9_proceed_124 : decode cX9_proceed 124 = .ok (.iload_n 1, 1) := dk_27 (dk_at dksX9_proceed_5 6 rfl rfl)
theorem dX9_proceed_125 : decode cX9_proceed 125 = .ok (.invokestatic 206, 3) := dk_184 0 206 (dk_at dksX9_proceed_5 7 rfl rfl)
theorem dX9_proceed_128 : decode cX9_proceed 128 = .ok (.ifCond .eq 71, 3) := dk_153 0 71 (dk_at dksX9_proceed_5 10 rfl rfl)
theorem dX9_proceed_131 : decode cX9_proceed 131 = .ok (.aload_n 0, 1) := dk_42 (dk_at dksX9_proceed_5 13 rfl rfl)
theorem dX9_proceed_132 : decode cX9_proceed 132 = .ok (.iconst 2, 1) := dk_5 (dk_at dksX9_proceed_5 14 rfl rfl)
theorem dX9_proceed_133 : decode cX9_proceed 133 = .ok (.putfield 200, 3) := dk_181 0 200 (dk_at dksX9_proceed_5 15 rfl rfl)
theorem dX9_proceed_136 : decode cX9_proceed 136 = .ok (.aload_n 0, 1) := dk_42 (dk_at dksX9_proceed_5 18 rfl rfl)
theorem dX9_proceed_137 : decode cX9_proceed 137 = .ok (.iload_n 1, 1) := dk_27 (dk_at dksX9_proceed_5 19 rfl rfl)
theorem dX9_proceed_138 : decode cX9_proceed 138 = .ok (.bipush 48, 2) := dk_16 48 (dk_at dksX9_proceed_5 20 rfl rfl)
theorem dX9_proceed_140 : decode cX9_proceed 140 = .ok (.isub, 1) := dk_100 (dk_at dksX9_proceed_5 22 rfl rfl)
theorem dX9_proceed_141 : decode cX9_proceed 141 = .ok (.putfield 209, 3) := dk_181 0 209 (dk_at dksX9_proceed_6 0 rfl rfl)
theorem dX9_proceed_144 : decode cX9_proceed 144 = .ok (.aload_n 0, 1) := dk_42 (dk_at dksX9_proceed_6 3 rfl rfl)
theorem dX9_proceed_145 : decode cX9_proceed 145 = .ok (.aload_n 0, 1) := dk_42 (dk_at dksX9_proceed_6 4 rfl rfl)
theorem dX9_proceed_146 : decode cX9_proceed 146 = .ok (.getfield 194, 3) := dk_180 0 194 (dk_at dksX9_proceed_6 5 rfl rfl)
theorem dX9_proceed_149 : decode cX9_proceed 149 = .ok (.invokevirtual 197, 3) := dk_182 0 197 (dk_at dksX9_proceed_6 8 rfl rfl)
theorem dX9_proceed_152 : decode cX9_proceed 152 = .ok (.invokestatic 206, 3) := dk_184 0 206 (dk_at dksX9_proceed_6 11 rfl rfl)
theorem dX9_proceed_155 : decode cX9_proceed 155 = .ok (.ifCond .eq 59, 3) := dk_153 0 59 (dk_at dksX9_proceed_6 14 rfl rfl)
theorem dX9_proceed_158 : decode cX9_proceed 158 = .ok (.aload_n 0, 1) := dk_42 (dk_at dksX9_proceed_6 17 rfl rfl)
theorem dX9_proceed_159 : decode cX9_proceed 159 = .ok (.ldc 212, 2) := dk_18 212 (dk_at dksX9_proceed_6 18 rfl rfl)
theorem dX9_proceed_161 : decode cX9_proceed 161 = .ok (.bipush 10, 2) := dk_16 10 (dk_at dksX9_proceed_6 20 rfl rfl)
theorem dX9_proceed_163 : decode cX9_proceed 163 = .ok (.aload_n 0, 1) := dk_42 (dk_at dksX9_proceed_6 22 rfl rfl)
theorem dX9_proceed_164 : decode cX9_proceed 164 = .ok (.getfield 209, 3) := dk_180 0 209 (dk_at dksX9_proceed_7 0 rfl rfl)
theorem dX9_proceed_167 : decode cX9_proceed 167 = .ok (.imul, 1) := dk_104 (dk_at dksX9_proceed_7 3 rfl rfl)
theorem dX9_proceed_168 : decode cX9_proceed 168 = .ok (.aload_n 0, 1) := dk_42 (dk_at dksX9_proceed_7 4 rfl rfl)
theorem dX9_proceed_169 : decode cX9_proceed 169 = .ok (.aload_n 0, 1) := dk_42 (dk_at dksX9_proceed_7 5 rfl rfl)
theorem dX9_proceed_170 : decode cX9_proceed 170 = .ok (.getfield 194, 3) := dk_180 0 194 (dk_at dksX9_proceed_7 6 rfl rfl)
theorem dX9_proceed_173 : decode cX9_proceed 173 = .ok (.invokevirtual 197, 3) := dk_182 0 197 (dk_at dksX9_proceed_7 9 rfl rfl)
theorem dX9_proceed_176 : decode cX9_proceed 176 = .ok (.iadd, 1) := dk_96 (dk_at dksX9_proceed_7 12 rfl rfl)
theorem dX9_proceed_177 : decode cX9_proceed 177 = .ok (.bipush 48, 2) := dk_16 48 (dk_at dksX9_proceed_7 13 rfl rfl)
theorem dX9_proceed_179 : decode cX9_proceed 179 = .ok (.isub, 1) := dk_100 (dk_at dksX9_proceed_7 15 rfl rfl)
theorem dX9_proceed_180 : decode cX9_proceed 180 = .ok (.invokestatic 110, 3) := dk_184 0 110 (dk_at dksX9_proceed_7 16 rfl rfl)
theorem dX9_proceed_183 : decode cX9_proceed 183 = .ok (.putfield 209, 3) := dk_181 0 209 (dk_at dksX9_proceed_7 19 rfl rfl)
theorem dX9_proceed_186 : decode cX9_proceed 186 = .ok (.aload_n 0, 1) := dk_42 (dk_at dksX9_proceed_7 22 rfl rfl)
theorem dX9_proceed_187 : decode cX9_proceed 187 = .ok (.dup, 1) := dk_89 (dk_at dksX9_proceed_7 23 rfl rfl)
theorem dX9_proceed_188 : decode cX9_proceed 188 = .ok (.getfield 194, 3) := dk_180 0 194 (dk_at dksX9_proceed_8 0 rfl rfl)
theorem dX9_proceed_191 : decode cX9_proceed 191 = .ok (.iconst 1, 1) := dk_4 (dk_at dksX9_proceed_8 3 rfl rfl)
theorem dX9_proceed_192 : decode cX9_proceed 192 = .ok (.iadd, 1) := dk_96 (dk_at dksX9_proceed_8 4 rfl rfl)
theorem dX9_proceed_193 : decode cX9_proceed 193 = .ok (.putfield 194, 3) := dk_181 0 194 (dk_at dksX9_proceed_8 5 rfl rfl)
theorem dX9_proceed_196 : decode cX9_proceed 196 = .ok (.goto (-52), 3) := dk_167 255 204 (dk_at dksX9_proceed_8 8 rfl rfl)
theorem dX9_proceed_199 : decode cX9_proceed 199 = .ok (.aload_n 0, 1) := dk_42 (dk_at dksX9_proceed_8 11 rfl rfl)
theorem dX9_proceed_200 : decode cX9_proceed 200 = .ok (.iload_n 1, 1) := dk_27 (dk_at dksX9_proceed_8 12 rfl rfl)
theorem dX9_proceed_201 : decode cX9_proceed 201 = .ok (.bipush 59, 2) := dk_16 59 (dk_at dksX9_proceed_8 13 rfl rfl)
theorem dX9_proceed_203 : decode cX9_proceed 203 = .ok (.if_icmp .ne 7, 3) := dk_160 0 7 (dk_at dksX9_proceed_8 15 rfl rfl)
theorem dX9_proceed_206 : decode cX9_proceed 206 = .ok (.iconst 3, 1) := dk_6 (dk_at dksX9_proceed_8 18 rfl rfl)
theorem dX9_proceed_207 : decode cX9_proceed 207 = .ok (.goto 4, 3) := dk_167 0 4 (dk_at dksX9_proceed_8 19 rfl rfl)
theorem dX9_proceed_210 : decode cX9_proceed 210 = .ok (.iconst 4, 1) := dk_7 (dk_at dksX9_proceed_8 22 rfl rfl)
theorem dX9_proceed_211 : decode cX9_proceed 211 = .ok (.putfield 200, 3) := dk_181 0 200 (dk_at dksX9_proceed_9 0 rfl rfl)
theorem dX9_proceed_214 : decode cX9_proceed 214 = .ok (.return_, 1) := dk_177 (dk_at dksX9_proceed_9 3 rfl rfl)
abbrev cX9_isFine : ByteArray := prog_16_method_52_code
def yX9_isFine : MethodName := ⟨RX9, "isFine", "()Z"⟩
def dkwX9_isFine_0 : List UInt8 := [42, 180, 0, 184, 154, 0, 7, 4, 167, 0, 4, 3, 172]
abbrev dktX9_isFine_0 : List UInt8 := dkwX9_isFine_0 ++ []
theorem dksX9_isFine_0 : cX9_isFine.data.toList.drop 0 = dktX9_isFine_0 := by decide +kernel
theorem dX9_isFine_0 : decode cX9_isFine 0 = .ok (.aload_n 0, 1) := dk_42 (dk_at dksX9_isFine_0 0 rfl rfl)
theorem dX9_isFine_1 : decode cX9_isFine 1 = .ok (.getfield 184, 3) := dk_180 0 184 (dk_at dksX9_isFine_0 1 rfl rfl)
theorem dX9_isFine_4 : decode cX9_isFine 4 = .ok (.ifCond .ne 7, 3) := dk_154 0 7 (dk_at dksX9_isFine_0 4 rfl rfl)
theorem dX9_isFine_7 : decode cX9_isFine 7 = .ok (.iconst 1, 1) := dk_4 (dk_at dksX9_isFine_0 7 rfl rfl)
theorem dX9_isFine_8 : decode cX9_isFine 8 = .ok (.goto 4, 3) := dk_167 0 4 (dk_at dksX9_isFine_0 8 rfl rfl)
theorem dX9_isFine_11 : decode cX9_isFine 11 = .ok (.iconst 0, 1) := dk_3 (dk_at dksX9_isFine_0 11 rfl rfl)
theorem dX9_isFine_12 : decode cX9_isFine 12 = .ok (.ireturn, 1) := dk_172 (dk_at dksX9_isFine_0 12 rfl rfl)
abbrev cX9_byteAt : ByteArray := prog_16_method_49_code
def yX9_byteAt : MethodName := ⟨RX9, "byteAt", "(I)I"⟩
def dkwX9_byteAt_0 : List UInt8 := [27, 42, 180, 0, 178, 162, 0, 16, 42, 180, 0, 32, 27, 51, 17, 0, 255, 126, 167, 0, 4, 2, 172]
abbrev dktX9_byteAt_0 : List UInt8 := dkwX9_byteAt_0 ++ []
theorem dksX9_byteAt_0 : cX9_byteAt.data.toList.drop 0 = dktX9_byteAt_0 := by decide +kernel
theorem dX9_byteAt_0 : decode cX9_byteAt 0 = .ok (.iload_n 1, 1) := dk_27 (dk_at dksX9_byteAt_0 0 rfl rfl)
theorem dX9_byteAt_1 : decode cX9_byteAt 1 = .ok (.aload_n 0, 1) := dk_42 (dk_at dksX9_byteAt_0 1 rfl rfl)
theorem dX9_byteAt_2 : decode cX9_byteAt 2 = .ok (.getfield 178, 3) := dk_180 0 178 (dk_at dksX9_byteAt_0 2 rfl rfl)
theorem dX9_byteAt_5 : decode cX9_byteAt 5 = .ok (.if_icmp .ge 16, 3) := dk_162 0 16 (dk_at dksX9_byteAt_0 5 rfl rfl)
theorem dX9_byteAt_8 : decode cX9_byteAt 8 = .ok (.aload_n 0, 1) := dk_42 (dk_at dksX9_byteAt_0 8 rfl rfl)
theorem dX9_byteAt_9 : decode cX9_byteAt 9 = .ok (.getfield 32, 3) := dk_180 0 32 (dk_at dksX9_byteAt_0 9 rfl rfl)
theorem dX9_byteAt_12 : decode cX9_byteAt 12 = .ok (.iload_n 1, 1) := dk_27 (dk_at dksX9_byteAt_0 12 rfl rfl)
theorem dX9_byteAt_13 : decode cX9_byteAt 13 = .ok (.baload, 1) := dk_51 (dk_at dksX9_byteAt_0 13 rfl rfl)
theorem dX9_byteAt_14 : decode cX9_byteAt 14 = .ok (.sipush 255, 3) := dk_17 0 255 (dk_at dksX9_byteAt_0 14 rfl rfl)
theorem dX9_byteAt_17 : decode cX9_byteAt 17 = .ok (.iand, 1) := dk_126 (dk_at dksX9_byteAt_0 17 rfl rfl)
theorem dX9_byteAt_18 : decode cX9_byteAt 18 = .ok (.goto 4, 3) := dk_167 0 4 (dk_at dksX9_byteAt_0 18 rfl rfl)
theorem dX9_byteAt_21 : decode cX9_byteAt 21 = .ok (.iconst (-1), 1) := dk_2 (dk_at dksX9_byteAt_0 21 rfl rfl)
theorem dX9_byteAt_22 : decode cX9_byteAt 22 = .ok (.ireturn, 1) := dk_172 (dk_at dksX9_byteAt_0 22 rfl rfl)
abbrev cX9_isSmall : ByteArray := prog_16_method_50_code
def yX9_isSmall : MethodName := ⟨RX9, "isSmall", "(I)Z"⟩
def dkwX9_isSmall_0 : List UInt8 := [26, 16, 97, 16, 122, 184, 0, 88, 172]
abbrev dktX9_isSmall_0 : List UInt8 := dkwX9_isSmall_0 ++ []
theorem dksX9_isSmall_0 : cX9_isSmall.data.toList.drop 0 = dktX9_isSmall_0 := by decide +kernel
theorem dX9_isSmall_0 : decode cX9_isSmall 0 = .ok (.iload_n 0, 1) := dk_26 (dk_at dksX9_isSmall_0 0 rfl rfl)
theorem dX9_isSmall_1 : decode cX9_isSmall 1 = .ok (.bipush 97, 2) := dk_16 97 (dk_at dksX9_isSmall_0 1 rfl rfl)
theorem dX9_isSmall_3 : decode cX9_isSmall 3 = .ok (.bipush 122, 2) := dk_16 122 (dk_at dksX9_isSmall_0 3 rfl rfl)
theorem dX9_isSmall_5 : decode cX9_isSmall 5 = .ok (.invokestatic 88, 3) := dk_184 0 88 (dk_at dksX9_isSmall_0 5 rfl rfl)
theorem dX9_isSmall_8 : decode cX9_isSmall 8 = .ok (.ireturn, 1) := dk_172 (dk_at dksX9_isSmall_0 8 rfl rfl)
abbrev cX9_isDigit : ByteArray := prog_16_method_51_code
def yX9_isDigit : MethodName := ⟨RX9, "isDigit", "(I)Z"⟩
def dkwX9_isDigit_0 : List UInt8 := [26, 16, 48, 16, 57, 184, 0, 88, 172]
abbrev dktX9_isDigit_0 : List UInt8 := dkwX9_isDigit_0 ++ []
theorem dksX9_isDigit_0 : cX9_isDigit.data.toList.drop 0 = dktX9_isDigit_0 := by decide +kernel
theorem dX9_isDigit_0 : decode cX9_isDigit 0 = .ok (.iload_n 0, 1) := dk_26 (dk_at dksX9_isDigit_0 0 rfl rfl)
theorem dX9_isDigit_1 : decode cX9_isDigit 1 = .ok (.bipush 48, 2) := dk_16 48 (dk_at dksX9_isDigit_0 1 rfl rfl)
theorem dX9_isDigit_3 : decode cX9_isDigit 3 = .ok (.bipush 57, 2) := dk_16 57 (dk_at dksX9_isDigit_0 3 rfl rfl)
theorem dX9_isDigit_5 : decode cX9_isDigit 5 = .ok (.invokestatic 88, 3) := dk_184 0 88 (dk_at dksX9_isDigit_0 5 rfl rfl)
theorem dX9_isDigit_8 : decode cX9_isDigit 8 = .ok (.ireturn, 1) := dk_172 (dk_at dksX9_isDigit_0 8 rfl rfl)
abbrev cX9_parseMist : ByteArray := prog_16_method_68_code
def yX9_parseMist : MethodName := ⟨RX9, "parseMist", "()V"⟩
def dkwX9_parseMist_4 : List UInt8 := [158, 0, 7, 4, 167, 0, 4, 3, 4, 182, 0, 228, 177]
abbrev dktX9_parseMist_4 : List UInt8 := dkwX9_parseMist_4 ++ []
def dkwX9_parseMist_3 : List UInt8 := [153, 0, 10, 42, 182, 1, 23, 167, 255, 238, 42, 42, 182, 0, 187, 153, 0, 12, 42, 180, 0, 7, 8, 46]
abbrev dktX9_parseMist_3 : List UInt8 := dkwX9_parseMist_3 ++ dktX9_parseMist_4
def dkwX9_parseMist_2 : List UInt8 := [42, 4, 8, 182, 0, 242, 79, 42, 182, 1, 18, 42, 182, 0, 187, 153, 0, 17, 42, 180, 0, 200]
abbrev dktX9_parseMist_2 : List UInt8 := dkwX9_parseMist_2 ++ dktX9_parseMist_3
def dkwX9_parseMist_1 : List UInt8 := [16, 9, 182, 0, 242, 79, 42, 180, 0, 7, 4, 42, 5, 16, 9, 182, 0, 242, 79, 42, 180, 0, 7, 5]
abbrev dktX9_parseMist_1 : List UInt8 := dkwX9_parseMist_1 ++ dktX9_parseMist_2
def dkwX9_parseMist_0 : List UInt8 := [42, 42, 19, 1, 21, 182, 0, 247, 4, 182, 0, 228, 42, 182, 0, 216, 42, 180, 0, 7, 3, 42, 5]
abbrev dktX9_parseMist_0 : List UInt8 := dkwX9_parseMist_0 ++ dktX9_parseMist_1
theorem dksX9_parseMist_0 : cX9_parseMist.data.toList.drop 0 = dktX9_parseMist_0 := by decide +kernel
theorem dksX9_parseMist_1 : cX9_parseMist.data.toList.drop 23 = dktX9_parseMist_1 := dk_seg dksX9_parseMist_0 23 rfl rfl
theorem dksX9_parseMist_2 : cX9_parseMist.data.toList.drop 47 = dktX9_parseMist_2 := dk_seg dksX9_parseMist_1 24 rfl rfl
theorem dksX9_parseMist_3 : cX9_parseMist.data.toList.drop 69 = dktX9_parseMist_3 := dk_seg dksX9_parseMist_2 22 rfl rfl
theorem dksX9_parseMist_4 : cX9_parseMist.data.toList.drop 93 = dktX9_parseMist_4 := dk_seg dksX9_parseMist_3 24 rfl rfl
theorem dX9_parseMist_0 : decode cX9_parseMist 0 = .ok (.aload_n 0, 1) := dk_42 (dk_at dksX9_parseMist_0 0 rfl rfl)
theorem dX9_parseMist_1 : decode cX9_parseMist 1 = .ok (.aload_n 0, 1) := dk_42 (dk_at dksX9_parseMist_0 1 rfl rfl)
theorem dX9_parseMist_2 : decode cX9_parseMist 2 = .ok (.ldc_w 277, 3) := dk_19 1 21 (dk_at dksX9_parseMist_0 2 rfl rfl)
theorem dX9_parseMist_5 : decode cX9_parseMist 5 = .ok (.invokevirtual 247, 3) := dk_182 0 247 (dk_at dksX9_parseMist_0 5 rfl rfl)
theorem dX9_parseMist_8 : decode cX9_parseMist 8 = .ok (.iconst 1, 1) := dk_4 (dk_at dksX9_parseMist_0 8 rfl rfl)
theorem dX9_parseMist_9 : decode cX9_parseMist 9 = .ok (.invokevirtual 228, 3) := dk_182 0 228 (dk_at dksX9_parseMist_0 9 rfl rfl)
theorem dX9_parseMist_12 : decode cX9_parseMist 12 = .ok (.aload_n 0, 1) := dk_42 (dk_at dksX9_parseMist_0 12 rfl rfl)
theorem dX9_parseMist_13 : decode cX9_parseMist 13 = .ok (.invokevirtual 216, 3) := dk_182 0 216 (dk_at dksX9_parseMist_0 13 rfl rfl)
theorem dX9_parseMist_16 : decode cX9_parseMist 16 = .ok (.aload_n 0, 1) := dk_42 (dk_at dksX9_parseMist_0 16 rfl rfl)
theorem dX9_parseMist_17 : decode cX9_parseMist 17 = .ok (.getfield 7, 3) := dk_180 0 7 (dk_at dksX9_parseMist_0 17 rfl rfl)
theorem dX9_parseMist_20 : decode cX9_parseMist 20 = .ok (.iconst 0, 1) := dk_3 (dk_at dksX9_parseMist_0 20 rfl rfl)
theorem dX9_parseMist_21 : decode cX9_parseMist 21 = .ok (.aload_n 0, 1) := dk_42 (dk_at dksX9_parseMist_0 21 rfl rfl)
theorem dX9_parseMist_22 : decode cX9_parseMist 22 = .ok (.iconst 2, 1) := dk_5 (dk_at dksX9_parseMist_0 22 rfl rfl)
theorem dX9_parseMist_23 : decode cX9_parseMist 23 = .ok (.bipush 9, 2) := dk_16 9 (dk_at dksX9_parseMist_1 0 rfl rfl)
theorem dX9_parseMist_25 : decode cX9_parseMist 25 = .ok (.invokevirtual 242, 3) := dk_182 0 242 (dk_at dksX9_parseMist_1 2 rfl rfl)
theorem dX9_parseMist_28 : decode cX9_parseMist 28 = .ok (.iastore, 1) := dk_79 (dk_at dksX9_parseMist_1 5 rfl rfl)
theorem dX9_parseMist_29 : decode cX9_parseMist 29 = .ok (.aload_n 0, 1) := dk_42 (dk_at dksX9_parseMist_1 6 rfl rfl)
theorem dX9_parseMist_30 : decode cX9_parseMist 30 = .ok (.getfield 7, 3) := dk_180 0 7 (dk_at dksX9_parseMist_1 7 rfl rfl)
theorem dX9_parseMist_33 : decode cX9_parseMist 33 = .ok (.iconst 1, 1) := dk_4 (dk_at dksX9_parseMist_1 10 rfl rfl)
theorem dX9_parseMist_34 : decode cX9_parseMist 34 = .ok (.aload_n 0, 1) := dk_42 (dk_at dksX9_parseMist_1 11 rfl rfl)
theorem dX9_parseMist_35 : decode cX9_parseMist 35 = .ok (.iconst 2, 1) := dk_5 (dk_at dksX9_parseMist_1 12 rfl rfl)
theorem dX9_parseMist_36 : decode cX9_parseMist 36 = .ok (.bipush 9, 2) := dk_16 9 (dk_at dksX9_parseMist_1 13 rfl rfl)
theorem dX9_parseMist_38 : decode cX9_parseMist 38 = .ok (.invokevirtual 242, 3) := dk_182 0 242 (dk_at dksX9_parseMist_1 15 rfl rfl)
theorem dX9_parseMist_41 : decode cX9_parseMist 41 = .ok (.iastore, 1) := dk_79 (dk_at dksX9_parseMist_1 18 rfl rfl)
theorem dX9_parseMist_42 : decode cX9_parseMist 42 = .ok (.aload_n 0, 1) := dk_42 (dk_at dksX9_parseMist_1 19 rfl rfl)
theorem dX9_parseMist_43 : decode cX9_parseMist 43 = .ok (.getfield 7, 3) := dk_180 0 7 (dk_at dksX9_parseMist_1 20 rfl rfl)
theorem dX9_parseMist_46 : decode cX9_parseMist 46 = .ok (.iconst 2, 1) := dk_5 (dk_at dksX9_parseMist_1 23 rfl rfl)
theorem dX9_parseMist_47 : decode cX9_parseMist 47 = .ok (.aload_n 0, 1) := dk_42 (dk_at dksX9_parseMist_2 0 rfl rfl)
theorem dX9_parseMist_48 : decode cX9_parseMist 48 = .ok (.iconst 1, 1) := dk_4 (dk_at dksX9_parseMist_2 1 rfl rfl)
theorem dX9_parseMist_49 : decode cX9_parseMist 49 = .ok (.iconst 5, 1) := dk_8 (dk_at dksX9_parseMist_2 2 rfl rfl)
theorem dX9_parseMist_50 : decode cX9_parseMist 50 = .ok (.invokevirtual 242, 3) := dk_182 0 242 (dk_at dksX9_parseMist_2 3 rfl rfl)
theorem dX9_parseMist_53 : decode cX9_parseMist 53 = .ok (.iastore, 1) := dk_79 (dk_at dksX9_parseMist_2 6 rfl rfl)
theorem dX9_parseMist_54 : decode cX9_parseMist 54 = .ok (.aload_n 0, 1) := dk_42 (dk_at dksX9_parseMist_2 7 rfl rfl)
theorem dX9_parseMist_55 : decode cX9_parseMist 55 = .ok (.invokevirtual 274, 3) := dk_182 1 18 (dk_at dksX9_parseMist_2 8 rfl rfl)
theorem dX9_parseMist_58 : decode cX9_parseMist 58 = .ok (.aload_n 0, 1) := dk_42 (dk_at dksX9_parseMist_2 11 rfl rfl)
theorem dX9_parseMist_59 : decode cX9_parseMist 59 = .ok (.invokevirtual 187, 3) := dk_182 0 187 (dk_at dksX9_parseMist_2 12 rfl rfl)
theorem dX9_parseMist_62 : decode cX9_parseMist 62 = .ok (.ifCond .eq 17, 3) := dk_153 0 17 (dk_at dksX9_parseMist_2 15 rfl rfl)
theorem dX9_parseMist_65 : decode cX9_parseMist 65 = .ok (.aload_n 0, 1) := dk_42 (dk_at dksX9_parseMist_2 18 rfl rfl)
theorem dX9_parseMist_66 : decode cX9_parseMist 66 = .ok (.getfield 200, 3) := dk_180 0 200 (dk_at dksX9_parseMist_2 19 rfl rfl)
theorem dX9_parseMist_69 : decode cX9_parseMist 69 = .ok (.ifCond .eq 10, 3) := dk_153 0 10 (dk_at dksX9_parseMist_3 0 rfl rfl)
theorem dX9_parseMist_72 : decode cX9_parseMist 72 = .ok (.aload_n 0, 1) := dk_42 (dk_at dksX9_parseMist_3 3 rfl rfl)
theorem dX9_parseMist_73 : decode cX9_parseMist 73 = .ok (.invokevirtual 279, 3) := dk_182 1 23 (dk_at dksX9_parseMist_3 4 rfl rfl)
theorem dX9_parseMist_76 : decode cX9_parseMist 76 = .ok (.goto (-18), 3) := dk_167 255 238 (dk_at dksX9_parseMist_3 7 rfl rfl)
theorem dX9_parseMist_79 : decode cX9_parseMist 79 = .ok (.aload_n 0, 1) := dk_42 (dk_at dksX9_parseMist_3 10 rfl rfl)
theorem dX9_parseMist_80 : decode cX9_parseMist 80 = .ok (.aload_n 0, 1) := dk_42 (dk_at dksX9_parseMist_3 11 rfl rfl)
theorem dX9_parseMist_81 : decode cX9_parseMist 81 = .ok (.invokevirtual 187, 3) := dk_182 0 187 (dk_at dksX9_parseMist_3 12 rfl rfl)
theorem dX9_parseMist_84 : decode cX9_parseMist 84 = .ok (.ifCond .eq 12, 3) := dk_153 0 12 (dk_at dksX9_parseMist_3 15 rfl rfl)
theorem dX9_parseMist_87 : decode cX9_parseMist 87 = .ok (.aload_n 0, 1) := dk_42 (dk_at dksX9_parseMist_3 18 rfl rfl)
theorem dX9_parseMist_88 : decode cX9_parseMist 88 = .ok (.getfield 7, 3) := dk_180 0 7 (dk_at dksX9_parseMist_3 19 rfl rfl)
theorem dX9_parseMist_91 : decode cX9_parseMist 91 = .ok (.iconst 5, 1) := dk_8 (dk_at dksX9_parseMist_3 22 rfl rfl)
theorem dX9_parseMist_92 : decode cX9_parseMist 92 = .ok (.iaload, 1) := dk_46 (dk_at dksX9_parseMist_3 23 rfl rfl)
theorem dX9_parseMist_93 : decode cX9_parseMist 93 = .ok (.ifCond .le 7, 3) := dk_158 0 7 (dk_at dksX9_parseMist_4 0 rfl rfl)
theorem dX9_parseMist_96 : decode cX9_parseMist 96 = .ok (.iconst 1, 1) := dk_4 (dk_at dksX9_parseMist_4 3 rfl rfl)
theorem dX9_parseMist_97 : decode cX9_parseMist 97 = .ok (.goto 4, 3) := dk_167 0 4 (dk_at dksX9_parseMist_4 4 rfl rfl)
theorem dX9_parseMist_100 : decode cX9_parseMist 100 = .ok (.iconst 0, 1) := dk_3 (dk_at dksX9_parseMist_4 7 rfl rfl)
theorem dX9_parseMist_101 : decode cX9_parseMist 101 = .ok (.iconst 1, 1) := dk_4 (dk_at dksX9_parseMist_4 8 rfl rfl)
theorem dX9_parseMist_102 : decode cX9_parseMist 102 = .ok (.invokevirtual 228, 3) := dk_182 0 228 (dk_at dksX9_parseMist_4 9 rfl rfl)
theorem dX9_parseMist_105 : decode cX9_parseMist 105 = .ok (.return_, 1) := dk_177 (dk_at dksX9_parseMist_4 12 rfl rfl)
abbrev cX9_isWord : ByteArray := prog_16_method_56_code
def yX9_isWord : MethodName := ⟨RX9, "isWord", "(Ljava/lang/String;)Z"⟩
def dkwX9_isWord_2 : List UInt8 := [182, 0, 224, 159, 0, 5, 3, 172, 132, 2, 1, 167, 255, 225, 4, 172]
abbrev dktX9_isWord_2 : List UInt8 := dkwX9_isWord_2 ++ []
def dkwX9_isWord_1 : List UInt8 := [3, 172, 3, 61, 28, 43, 182, 0, 219, 162, 0, 29, 42, 42, 180, 0, 191, 28, 96, 182, 0, 197, 43, 28]
abbrev dktX9_isWord_1 : List UInt8 := dkwX9_isWord_1 ++ dktX9_isWord_2
def dkwX9_isWord_0 : List UInt8 := [42, 180, 0, 200, 4, 160, 0, 19, 42, 180, 0, 194, 42, 180, 0, 191, 100, 43, 182, 0, 219, 159, 0, 5]
abbrev dktX9_isWord_0 : List UInt8 := dkwX9_isWord_0 ++ dktX9_isWord_1
theorem dksX9_isWord_0 : cX9_isWord.data.toList.drop 0 = dktX9_isWord_0 := by decide +kernel
theorem dksX9_isWord_1 : cX9_isWord.data.toList.drop 24 = dktX9_isWord_1 := dk_seg dksX9_isWord_0 24 rfl rfl
theorem dksX9_isWord_2 : cX9_isWord.data.toList.drop 48 = dktX9_isWord_2 := dk_seg dksX9_isWord_1 24 rfl rfl
theorem dX9_isWord_0 : decode cX9_isWord 0 = .ok (.aload_n 0, 1) := dk_42 (dk_at dksX9_isWord_0 0 rfl rfl)
theorem dX9_isWord_1 : decode cX9_isWord 1 = .ok (.getfield 200, 3) := dk_180 0 200 (dk_at dksX9_isWord_0 1 rfl rfl)
theorem dX9_isWord_4 : decode cX9_isWord 4 = .ok (.iconst 1, 1) := dk_4 (dk_at dksX9_isWord_0 4 rfl rfl)
theorem dX9_isWord_5 : decode cX9_isWord 5 = .ok (.if_icmp .ne 19, 3) := dk_160 0 19 (dk_at dksX9_isWord_0 5 rfl rfl)
theorem dX9_isWord_8 : decode cX9_isWord 8 = .ok (.aload_n 0, 1) := dk_42 (dk_at dksX9_isWord_0 8 rfl rfl)
theorem dX9_isWord_9 : decode cX9_isWord 9 = .ok (.getfield 194, 3) := dk_180 0 194 (dk_at dksX9_isWord_0 9 rfl rfl)
theorem dX9_isWord_12 : decode cX9_isWord 12 = .ok (.aload_n 0, 1) := dk_42 (dk_at dksX9_isWord_0 12 rfl rfl)
theorem dX9_isWord_13 : decode cX9_isWord 13 = .ok (.getfield 191, 3) := dk_180 0 191 (dk_at dksX9_isWord_0 13 rfl rfl)
theorem dX9_isWord_16 : decode cX9_isWord 16 = .ok (.isub, 1) := dk_100 (dk_at dksX9_isWord_0 16 rfl rfl)
theorem dX9_isWord_17 : decode cX9_isWord 17 = .ok (.aload_n 1, 1) := dk_43 (dk_at dksX9_isWord_0 17 rfl rfl)
theorem dX9_isWord_18 : decode cX9_isWord 18 = .ok (.invokevirtual 219, 3) := dk_182 0 219 (dk_at dksX9_isWord_0 18 rfl rfl)
theorem dX9_isWord_21 : decode cX9_isWord 21 = .ok (.if_icmp .eq 5, 3) := dk_159 0 5 (dk_at dksX9_isWord_0 21 rfl rfl)
theorem dX9_isWord_24 : decode cX9_isWord 24 = .ok (.iconst 0, 1) := dk_3 (dk_at dksX9_isWord_1 0 rfl rfl)
theorem dX9_isWord_25 : decode cX9_isWord 25 = .ok (.ireturn, 1) := dk_172 (dk_at dksX9_isWord_1 1 rfl rfl)
theorem dX9_isWord_26 : decode cX9_isWord 26 = .ok (.iconst 0, 1) := dk_3 (dk_at dksX9_isWord_1 2 rfl rfl)
theorem dX9_isWord_27 : decode cX9_isWord 27 = .ok (.istore_n 2, 1) := dk_61 (dk_at dksX9_isWord_1 3 rfl rfl)
theorem dX9_isWord_28 : decode cX9_isWord 28 = .ok (.iload_n 2, 1) := dk_28 (dk_at dksX9_isWord_1 4 rfl rfl)
theorem dX9_isWord_29 : decode cX9_isWord 29 = .ok (.aload_n 1, 1) := dk_43 (dk_at dksX9_isWord_1 5 rfl rfl)
theorem dX9_isWord_30 : decode cX9_isWord 30 = .ok (.invokevirtual 219, 3) := dk_182 0 219 (dk_at dksX9_isWord_1 6 rfl rfl)
theorem dX9_isWord_33 : decode cX9_isWord 33 = .ok (.if_icmp .ge 29, 3) := dk_162 0 29 (dk_at dksX9_isWord_1 9 rfl rfl)
theorem dX9_isWord_36 : decode cX9_isWord 36 = .ok (.aload_n 0, 1) := dk_42 (dk_at dksX9_isWord_1 12 rfl rfl)
theorem dX9_isWord_37 : decode cX9_isWord 37 = .ok (.aload_n 0, 1) := dk_42 (dk_at dksX9_isWord_1 13 rfl rfl)
theorem dX9_isWord_38 : decode cX9_isWord 38 = .ok (.getfield 191, 3) := dk_180 0 191 (dk_at dksX9_isWord_1 14 rfl rfl)
theorem dX9_isWord_41 : decode cX9_isWord 41 = .ok (.iload_n 2, 1) := dk_28 (dk_at dksX9_isWord_1 17 rfl rfl)
theorem dX9_isWord_42 : decode cX9_isWord 42 = .ok (.iadd, 1) := dk_96 (dk_at dksX9_isWord_1 18 rfl rfl)
theorem dX9_isWord_43 : decode cX9_isWord 43 = .ok (.invokevirtual 197, 3) := dk_182 0 197 (dk_at dksX9_isWord_1 19 rfl rfl)
theorem dX9_isWord_46 : decode cX9_isWord 46 = .ok (.aload_n 1, 1) := dk_43 (dk_at dksX9_isWord_1 22 rfl rfl)
theorem dX9_isWord_47 : decode cX9_isWord 47 = .ok (.iload_n 2, 1) := dk_28 (dk_at dksX9_isWord_1 23 rfl rfl)
theorem dX9_isWord_48 : decode cX9_isWord 48 = .ok (.invokevirtual 224, 3) := dk_182 0 224 (dk_at dksX9_isWord_2 0 rfl rfl)
theorem dX9_isWord_51 : decode cX9_isWord 51 = .ok (.if_icmp .eq 5, 3) := dk_159 0 5 (dk_at dksX9_isWord_2 3 rfl rfl)
theorem dX9_isWord_54 : decode cX9_isWord 54 = .ok (.iconst 0, 1) := dk_3 (dk_at dksX9_isWord_2 6 rfl rfl)
theorem dX9_isWord_55 : decode cX9_isWord 55 = .ok (.ireturn, 1) := dk_172 (dk_at dksX9_isWord_2 7 rfl rfl)
theorem dX9_isWord_56 : decode cX9_isWord 56 = .ok (.iinc 2 1, 3) := dk_132 2 1 (dk_at dksX9_isWord_2 8 rfl rfl)
theorem dX9_isWord_59 : decode cX9_isWord 59 = .ok (.goto (-31), 3) := dk_167 255 225 (dk_at dksX9_isWord_2 11 rfl rfl)
theorem dX9_isWord_62 : decode cX9_isWord 62 = .ok (.iconst 1, 1) := dk_4 (dk_at dksX9_isWord_2 14 rfl rfl)
theorem dX9_isWord_63 : decode cX9_isWord 63 = .ok (.ireturn, 1) := dk_172 (dk_at dksX9_isWord_2 15 rfl rfl)
abbrev cX9_require : ByteArray := prog_16_method_53_code
def yX9_require : MethodName := ⟨RX9, "require", "(ZI)V"⟩
def dkwX9_require_1 : List UInt8 := [177]
abbrev dktX9_require_1 : List UInt8 := dkwX9_require_1 ++ []
def dkwX9_require_0 : List UInt8 := [42, 182, 0, 187, 153, 0, 20, 27, 154, 0, 16, 42, 28, 181, 0, 184, 42, 42, 180, 0, 191, 181, 0, 36]
abbrev dktX9_require_0 : List UInt8 := dkwX9_require_0 ++ dktX9_require_1
theorem dksX9_require_0 : cX9_require.data.toList.drop 0 = dktX9_require_0 := by decide +kernel
theorem dksX9_require_1 : cX9_require.data.toList.drop 24 = dktX9_require_1 := dk_seg dksX9_require_0 24 rfl rfl
theorem dX9_require_0 : decode cX9_require 0 = .ok (.aload_n 0, 1) := dk_42 (dk_at dksX9_require_0 0 rfl rfl)
theorem dX9_require_1 : decode cX9_require 1 = .ok (.invokevirtual 187, 3) := dk_182 0 187 (dk_at dksX9_require_0 1 rfl rfl)
theorem dX9_require_4 : decode cX9_require 4 = .ok (.ifCond .eq 20, 3) := dk_153 0 20 (dk_at dksX9_require_0 4 rfl rfl)
theorem dX9_require_7 : decode cX9_require 7 = .ok (.iload_n 1, 1) := dk_27 (dk_at dksX9_require_0 7 rfl rfl)
theorem dX9_require_8 : decode cX9_require 8 = .ok (.ifCond .ne 16, 3) := dk_154 0 16 (dk_at dksX9_require_0 8 rfl rfl)
theorem dX9_require_11 : decode cX9_require 11 = .ok (.aload_n 0, 1) := dk_42 (dk_at dksX9_require_0 11 rfl rfl)
theorem dX9_require_12 : decode cX9_require 12 = .ok (.iload_n 2, 1) := dk_28 (dk_at dksX9_require_0 12 rfl rfl)
theorem dX9_require_13 : decode cX9_require 13 = .ok (.putfield 184, 3) := dk_181 0 184 (dk_at dksX9_require_0 13 rfl rfl)
theorem dX9_require_16 : decode cX9_require 16 = .ok (.aload_n 0, 1) := dk_42 (dk_at dksX9_require_0 16 rfl rfl)
theorem dX9_require_17 : decode cX9_require 17 = .ok (.aload_n 0, 1) := dk_42 (dk_at dksX9_require_0 17 rfl rfl)
theorem dX9_require_18 : decode cX9_require 18 = .ok (.getfield 191, 3) := dk_180 0 191 (dk_at dksX9_require_0 18 rfl rfl)
theorem dX9_require_21 : decode cX9_require 21 = .ok (.putfield 36, 3) := dk_181 0 36 (dk_at dksX9_require_0 21 rfl rfl)
theorem dX9_require_24 : decode cX9_require 24 = .ok (.return_, 1) := dk_177 (dk_at dksX9_require_1 0 rfl rfl)
abbrev cX9_parseRange : ByteArray := prog_16_method_59_code
def yX9_parseRange : MethodName := ⟨RX9, "parseRange", "(II)I"⟩
def dkwX9_parseRange_0 : List UInt8 := [42, 182, 0, 187, 153, 0, 12, 42, 27, 28, 182, 0, 232, 167, 0, 4, 27, 172]
abbrev dktX9_parseRange_0 : List UInt8 := dkwX9_parseRange_0 ++ []
theorem dksX9_parseRange_0 : cX9_parseRange.data.toList.drop 0 = dktX9_parseRange_0 := by decide +kernel
theorem dX9_parseRange_0 : decode cX9_parseRange 0 = .ok (.aload_n 0, 1) := dk_42 (dk_at dksX9_parseRange_0 0 rfl rfl)
theorem dX9_parseRange_1 : decode cX9_parseRange 1 = .ok (.invokevirtual 187, 3) := dk_182 0 187 (dk_at dksX9_parseRange_0 1 rfl rfl)
theorem dX9_parseRange_4 : decode cX9_parseRange 4 = .ok (.ifCond .eq 12, 3) := dk_153 0 12 (dk_at dksX9_parseRange_0 4 rfl rfl)
theorem dX9_parseRange_7 : decode cX9_parseRange 7 = .ok (.aload_n 0, 1) := dk_42 (dk_at dksX9_parseRange_0 7 rfl rfl)
theorem dX9_parseRange_8 : decode cX9_parseRange 8 = .ok (.iload_n 1, 1) := dk_27 (dk_at dksX9_parseRange_0 8 rfl rfl)
theorem dX9_parseRange_9 : decode cX9_parseRange 9 = .ok (.iload_n 2, 1) := dk_28 (dk_at dksX9_parseRange_0 9 rfl rfl)
theorem dX9_parseRange_10 : decode cX9_parseRange 10 = .ok (.invokevirtual 232, 3) := dk_182 0 232 (dk_at dksX9_parseRange_0 10 rfl rfl)
theorem dX9_parseRange_13 : decode cX9_parseRange 13 = .ok (.goto 4, 3) := dk_167 0 4 (dk_at dksX9_parseRange_0 13 rfl rfl)
theorem dX9_parseRange_16 : decode cX9_parseRange 16 = .ok (.iload_n 1, 1) := dk_27 (dk_at dksX9_parseRange_0 16 rfl rfl)
theorem dX9_parseRange_17 : decode cX9_parseRange 17 = .ok (.ireturn, 1) := dk_172 (dk_at dksX9_parseRange_0 17 rfl rfl)
abbrev cX9_parseNumber : ByteArray := prog_16_method_58_code
def yX9_parseNumber : MethodName := ⟨RX9, "parseNumber", "(II)I"⟩
def dkwX9_parseNumber_2 : List UInt8 := [42, 182, 0, 187, 153, 0, 10, 42, 180, 0, 209, 167, 0, 4, 27, 62, 42, 182, 0, 216, 29, 172]
abbrev dktX9_parseNumber_2 : List UInt8 := dkwX9_parseNumber_2 ++ []
def dkwX9_parseNumber_1 : List UInt8 := [160, 0, 15, 42, 180, 0, 209, 27, 28, 184, 0, 88, 153, 0, 7, 4, 167, 0, 4, 3, 5, 182, 0, 228]
abbrev dktX9_parseNumber_1 : List UInt8 := dkwX9_parseNumber_1 ++ dktX9_parseNumber_2
def dkwX9_parseNumber_0 : List UInt8 := [42, 42, 180, 0, 200, 5, 160, 0, 7, 4, 167, 0, 4, 3, 4, 182, 0, 228, 42, 42, 180, 0, 200, 5]
abbrev dktX9_parseNumber_0 : List UInt8 := dkwX9_parseNumber_0 ++ dktX9_parseNumber_1
theorem dksX9_parseNumber_0 : cX9_parseNumber.data.toList.drop 0 = dktX9_parseNumber_0 := by decide +kernel
theorem dksX9_parseNumber_1 : cX9_parseNumber.data.toList.drop 24 = dktX9_parseNumber_1 := dk_seg dksX9_parseNumber_0 24 rfl rfl
theorem dksX9_parseNumber_2 : cX9_parseNumber.data.toList.drop 48 = dktX9_parseNumber_2 := dk_seg dksX9_parseNumber_1 24 rfl rfl
theorem dX9_parseNumber_0 : decode cX9_parseNumber 0 = .ok (.aload_n 0, 1) := dk_42 (dk_at dksX9_parseNumber_0 0 rfl rfl)
theorem dX9_parseNumber_1 : decode cX9_parseNumber 1 = .ok (.aload_n 0, 1) := dk_42 (dk_at dksX9_parseNumber_0 1 rfl rfl)
theorem dX9_parseNumber_2 : decode cX9_parseNumber 2 = .ok (.getfield 200, 3) := dk_180 0 200 (dk_at dksX9_parseNumber_0 2 rfl rfl)
theorem dX9_parseNumber_5 : decode cX9_parseNumber 5 = .ok (.iconst 2, 1) := dk_5 (dk_at dksX9_parseNumber_0 5 rfl rfl)
theorem dX9_parseNumber_6 : decode cX9_parseNumber 6 = .ok (.if_icmp .ne 7, 3) := dk_160 0 7 (dk_at dksX9_parseNumber_0 6 rfl rfl)
theorem dX9_parseNumber_9 : decode cX9_parseNumber 9 = .ok (.iconst 1, 1) := dk_4 (dk_at dksX9_parseNumber_0 9 rfl rfl)
theorem dX9_parseNumber_10 : decode cX9_parseNumber 10 = .ok (.goto 4, 3) := dk_167 0 4 (dk_at dksX9_parseNumber_0 10 rfl rfl)
theorem dX9_parseNumber_13 : decode cX9_parseNumber 13 = .ok (.iconst 0, 1) := dk_3 (dk_at dksX9_parseNumber_0 13 rfl rfl)
theorem dX9_parseNumber_14 : decode cX9_parseNumber 14 = .ok (.iconst 1, 1) := dk_4 (dk_at dksX9_parseNumber_0 14 rfl rfl)
theorem dX9_parseNumber_15 : decode cX9_parseNumber 15 = .ok (.invokevirtual 228, 3) := dk_182 0 228 (dk_at dksX9_parseNumber_0 15 rfl rfl)
theorem dX9_parseNumber_18 : decode cX9_parseNumber 18 = .ok (.aload_n 0, 1) := dk_42 (dk_at dksX9_parseNumber_0 18 rfl rfl)
theorem dX9_parseNumber_19 : decode cX9_parseNumber 19 = .ok (.aload_n 0, 1) := dk_42 (dk_at dksX9_parseNumber_0 19 rfl rfl)
theorem dX9_parseNumber_20 : decode cX9_parseNumber 20 = .ok (.getfield 200, 3) := dk_180 0 200 (dk_at dksX9_parseNumber_0 20 rfl rfl)
theorem dX9_parseNumber_23 : decode cX9_parseNumber 23 = .ok (.iconst 2, 1) := dk_5 (dk_at dksX9_parseNumber_0 23 rfl rfl)
theorem dX9_parseNumber_24 : decode cX9_parseNumber 24 = .ok (.if_icmp .ne 15, 3) := dk_160 0 15 (dk_at dksX9_parseNumber_1 0 rfl rfl)
theorem dX9_parseNumber_27 : decode cX9_parseNumber 27 = .ok (.aload_n 0, 1) := dk_42 (dk_at dksX9_parseNumber_1 3 rfl rfl)
theorem dX9_parseNumber_28 : decode cX9_parseNumber 28 = .ok (.getfield 209, 3) := dk_180 0 209 (dk_at dksX9_parseNumber_1 4 rfl rfl)
theorem dX9_parseNumber_31 : decode cX9_parseNumber 31 = .ok (.iload_n 1, 1) := dk_27 (dk_at dksX9_parseNumber_1 7 rfl rfl)
theorem dX9_parseNumber_32 : decode cX9_parseNumber 32 = .ok (.iload_n 2, 1) := dk_28 (dk_at dksX9_parseNumber_1 8 rfl rfl)
theorem dX9_parseNumber_33 : decode cX9_parseNumber 33 = .ok (.invokestatic 88, 3) := dk_184 0 88 (dk_at dksX9_parseNumber_1 9 rfl rfl)
theorem dX9_parseNumber_36 : decode cX9_parseNumber 36 = .ok (.ifCond .eq 7, 3) := dk_153 0 7 (dk_at dksX9_parseNumber_1 12 rfl rfl)
theorem dX9_parseNumber_39 : decode cX9_parseNumber 39 = .ok (.iconst 1, 1) := dk_4 (dk_at dksX9_parseNumber_1 15 rfl rfl)
theorem dX9_parseNumber_40 : decode cX9_parseNumber 40 = .ok (.goto 4, 3) := dk_167 0 4 (dk_at dksX9_parseNumber_1 16 rfl rfl)
theorem dX9_parseNumber_43 : decode cX9_parseNumber 43 = .ok (.iconst 0, 1) := dk_3 (dk_at dksX9_parseNumber_1 19 rfl rfl)
theorem dX9_parseNumber_44 : decode cX9_parseNumber 44 = .ok (.iconst 2, 1) := dk_5 (dk_at dksX9_parseNumber_1 20 rfl rfl)
theorem dX9_parseNumber_45 : decode cX9_parseNumber 45 = .ok (.invokevirtual 228, 3) := dk_182 0 228 (dk_at dksX9_parseNumber_1 21 rfl rfl)
theorem dX9_parseNumber_48 : decode cX9_parseNumber 48 = .ok (.aload_n 0, 1) := dk_42 (dk_at dksX9_parseNumber_2 0 rfl rfl)
theorem dX9_parseNumber_49 : decode cX9_parseNumber 49 = .ok (.invokevirtual 187, 3) := dk_182 0 187 (dk_at dksX9_parseNumber_2 1 rfl rfl)
theorem dX9_parseNumber_52 : decode cX9_parseNumber 52 = .ok (.ifCond .eq 10, 3) := dk_153 0 10 (dk_at dksX9_parseNumber_2 4 rfl rfl)
theorem dX9_parseNumber_55 : decode cX9_parseNumber 55 = .ok (.aload_n 0, 1) := dk_42 (dk_at dksX9_parseNumber_2 7 rfl rfl)
theorem dX9_parseNumber_56 : decode cX9_parseNumber 56 = .ok (.getfield 209, 3) := dk_180 0 209 (dk_at dksX9_parseNumber_2 8 rfl rfl)
theorem dX9_parseNumber_59 : decode cX9_parseNumber 59 = .ok (.goto 4, 3) := dk_167 0 4 (dk_at dksX9_parseNumber_2 11 rfl rfl)
theorem dX9_parseNumber_62 : decode cX9_parseNumber 62 = .ok (.iload_n 1, 1) := dk_27 (dk_at dksX9_parseNumber_2 14 rfl rfl)
theorem dX9_parseNumber_63 : decode cX9_parseNumber 63 = .ok (.istore_n 3, 1) := dk_62 (dk_at dksX9_parseNumber_2 15 rfl rfl)
theorem dX9_parseNumber_64 : decode cX9_parseNumber 64 = .ok (.aload_n 0, 1) := dk_42 (dk_at dksX9_parseNumber_2 16 rfl rfl)
theorem dX9_parseNumber_65 : decode cX9_parseNumber 65 = .ok (.invokevirtual 216, 3) := dk_182 0 216 (dk_at dksX9_parseNumber_2 17 rfl rfl)
theorem dX9_parseNumber_68 : decode cX9_parseNumber 68 = .ok (.iload_n 3, 1) := dk_29 (dk_at dksX9_parseNumber_2 20 rfl rfl)
theorem dX9_parseNumber_69 : decode cX9_parseNumber 69 = .ok (.ireturn, 1) := dk_172 (dk_at dksX9_parseNumber_2 21 rfl rfl)
abbrev cX9_parseEnd : ByteArray := prog_16_method_57_code
def yX9_parseEnd : MethodName := ⟨RX9, "parseEnd", "()V"⟩
def dkwX9_parseEnd_0 : List UInt8 := [42, 42, 180, 0, 200, 6, 160, 0, 7, 4, 167, 0, 4, 3, 4, 182, 0, 228, 42, 182, 0, 216, 177]
abbrev dktX9_parseEnd_0 : List UInt8 := dkwX9_parseEnd_0 ++ []
theorem dksX9_parseEnd_0 : cX9_parseEnd.data.toList.drop 0 = dktX9_parseEnd_0 := by decide +kernel
theorem dX9_parseEnd_0 : decode cX9_parseEnd 0 = .ok (.aload_n 0, 1) := dk_42 (dk_at dksX9_parseEnd_0 0 rfl rfl)
theorem dX9_parseEnd_1 : decode cX9_parseEnd 1 = .ok (.aload_n 0, 1) := dk_42 (dk_at dksX9_parseEnd_0 1 rfl rfl)
theorem dX9_parseEnd_2 : decode cX9_parseEnd 2 = .ok (.getfield 200, 3) := dk_180 0 200 (dk_at dksX9_parseEnd_0 2 rfl rfl)
theorem dX9_parseEnd_5 : decode cX9_parseEnd 5 = .ok (.iconst 3, 1) := dk_6 (dk_at dksX9_parseEnd_0 5 rfl rfl)
theorem dX9_parseEnd_6 : decode cX9_parseEnd 6 = .ok (.if_icmp .ne 7, 3) := dk_160 0 7 (dk_at dksX9_parseEnd_0 6 rfl rfl)
theorem dX9_parseEnd_9 : decode cX9_parseEnd 9 = .ok (.iconst 1, 1) := dk_4 (dk_at dksX9_parseEnd_0 9 rfl rfl)
theorem dX9_parseEnd_10 : decode cX9_parseEnd 10 = .ok (.goto 4, 3) := dk_167 0 4 (dk_at dksX9_parseEnd_0 10 rfl rfl)
theorem dX9_parseEnd_13 : decode cX9_parseEnd 13 = .ok (.iconst 0, 1) := dk_3 (dk_at dksX9_parseEnd_0 13 rfl rfl)
theorem dX9_parseEnd_14 : decode cX9_parseEnd 14 = .ok (.iconst 1, 1) := dk_4 (dk_at dksX9_parseEnd_0 14 rfl rfl)
theorem dX9_parseEnd_15 : decode cX9_parseEnd 15 = .ok (.invokevirtual 228, 3) := dk_182 0 228 (dk_at dksX9_parseEnd_0 15 rfl rfl)
theorem dX9_parseEnd_18 : decode cX9_parseEnd 18 = .ok (.aload_n 0, 1) := dk_42 (dk_at dksX9_parseEnd_0 18 rfl rfl)
theorem dX9_parseEnd_19 : decode cX9_parseEnd 19 = .ok (.invokevirtual 216, 3) := dk_182 0 216 (dk_at dksX9_parseEnd_0 19 rfl rfl)
theorem dX9_parseEnd_22 : decode cX9_parseEnd 22 = .ok (.return_, 1) := dk_177 (dk_at dksX9_parseEnd_0 22 rfl rfl)
abbrev cX9_parseLine : ByteArray := prog_16_method_67_code
def yX9_parseLine : MethodName := ⟨RX9, "parseLine", "()V"⟩
def dkwX9_parseLine_3 : List UInt8 := [42, 182, 1, 18, 177]
abbrev dktX9_parseLine_3 : List UInt8 := dkwX9_parseLine_3 ++ []
def dkwX9_parseLine_2 : List UInt8 := [167, 0, 24, 42, 19, 1, 10, 182, 0, 247, 153, 0, 10, 42, 182, 1, 12, 167, 0, 7, 42, 182, 1, 15]
abbrev dktX9_parseLine_2 : List UInt8 := dkwX9_parseLine_2 ++ dktX9_parseLine_3
def dkwX9_parseLine_1 : List UInt8 := [153, 0, 10, 42, 182, 1, 2, 167, 0, 41, 42, 19, 1, 5, 182, 0, 247, 153, 0, 10, 42, 182, 1, 7]
abbrev dktX9_parseLine_1 : List UInt8 := dkwX9_parseLine_1 ++ dktX9_parseLine_2
def dkwX9_parseLine_0 : List UInt8 := [42, 18, 251, 182, 0, 247, 153, 0, 10, 42, 182, 0, 253, 167, 0, 58, 42, 19, 1, 0, 182, 0, 247]
abbrev dktX9_parseLine_0 : List UInt8 := dkwX9_parseLine_0 ++ dktX9_parseLine_1
theorem dksX9_parseLine_0 : cX9_parseLine.data.toList.drop 0 = dktX9_parseLine_0 := by decide +kernel
theorem dksX9_parseLine_1 : cX9_parseLine.data.toList.drop 23 = dktX9_parseLine_1 := dk_seg dksX9_parseLine_0 23 rfl rfl
theorem dksX9_parseLine_2 : cX9_parseLine.data.toList.drop 47 = dktX9_parseLine_2 := dk_seg dksX9_parseLine_1 24 rfl rfl
theorem dksX9_parseLine_3 : cX9_parseLine.data.toList.drop 71 = dktX9_parseLine_3 := dk_seg dksX9_parseLine_2 24 rfl rfl
theorem dX9_parseLine_0 : decode cX9_parseLine 0 = .ok (.aload_n 0, 1) := dk_42 (dk_at dksX9_parseLine_0 0 rfl rfl)
theorem dX9_parseLine_1 : decode cX9_parseLine 1 = .ok (.ldc 251, 2) := dk_18 251 (dk_at dksX9_parseLine_0 1 rfl rfl)
theorem dX9_parseLine_3 : decode cX9_parseLine 3 = .ok (.invokevirtual 247, 3) := dk_182 0 247 (dk_at dksX9_parseLine_0 3 rfl rfl)
theorem dX9_parseLine_6 : decode cX9_parseLine 6 = .ok (.ifCond .eq 10, 3) := dk_153 0 10 (dk_at dksX9_parseLine_0 6 rfl rfl)
theorem dX9_parseLine_9 : decode cX9_parseLine 9 = .ok (.aload_n 0, 1) := dk_42 (dk_at dksX9_parseLine_0 9 rfl rfl)
theorem dX9_parseLine_10 : decode cX9_parseLine 10 = .ok (.invokevirtual 253, 3) := dk_182 0 253 (dk_at dksX9_parseLine_0 10 rfl rfl)
theorem dX9_parseLine_13 : decode cX9_parseLine 13 = .ok (.goto 58, 3) := dk_167 0 58 (dk_at dksX9_parseLine_0 13 rfl rfl)
theorem dX9_parseLine_16 : decode cX9_parseLine 16 = .ok (.aload_n 0, 1) := dk_42 (dk_at dksX9_parseLine_0 16 rfl rfl)
theorem dX9_parseLine_17 : decode cX9_parseLine 17 = .ok (.ldc_w 256, 3) := dk_19 1 0 (dk_at dksX9_parseLine_0 17 rfl rfl)
theorem dX9_parseLine_20 : decode cX9_parseLine 20 = .ok (.invokevirtual 247, 3) := dk_182 0 247 (dk_at dksX9_parseLine_0 20 rfl rfl)
theorem dX9_parseLine_23 : decode cX9_parseLine 23 = .ok (.ifCond .eq 10, 3) := dk_153 0 10 (dk_at dksX9_parseLine_1 0 rfl rfl)
theorem dX9_parseLine_26 : decode cX9_parseLine 26 = .ok (.aload_n 0, 1) := dk_42 (dk_at dksX9_parseLine_1 3 rfl rfl)
theorem dX9_parseLine_27 : decode cX9_parseLine 27 = .ok (.invokevirtual 258, 3) := dk_182 1 2 (dk_at dksX9_parseLine_1 4 rfl rfl)
theorem dX9_parseLine_30 : decode cX9_parseLine 30 = .ok (.goto 41, 3) := dk_167 0 41 (dk_at dksX9_parseLine_1 7 rfl rfl)
theorem dX9_parseLine_33 : decode cX9_parseLine 33 = .ok (.aload_n 0, 1) := dk_42 (dk_at dksX9_parseLine_1 10 rfl rfl)
theorem dX9_parseLine_34 : decode cX9_parseLine 34 = .ok (.ldc_w 261, 3) := dk_19 1 5 (dk_at dksX9_parseLine_1 11 rfl rfl)
theorem dX9_parseLine_37 : decode cX9_parseLine 37 = .ok (.invokevirtual 247, 3) := dk_182 0 247 (dk_at dksX9_parseLine_1 14 rfl rfl)
theorem dX9_parseLine_40 : decode cX9_parseLine 40 = .ok (.ifCond .eq 10, 3) := dk_153 0 10 (dk_at dksX9_parseLine_1 17 rfl rfl)
theorem dX9_parseLine_43 : decode cX9_parseLine 43 = .ok (.aload_n 0, 1) := dk_42 (dk_at dksX9_parseLine_1 20 rfl rfl)
theorem dX9_parseLine_44 : decode cX9_parseLine 44 = .ok (.invokevirtual 263, 3) := dk_182 1 7 (dk_at dksX9_parseLine_1 21 rfl rfl)
theorem dX9_parseLine_47 : decode cX9_parseLine 47 = .ok (.goto 24, 3) := dk_167 0 24 (dk_at dksX9_parseLine_2 0 rfl rfl)
theorem dX9_parseLine_50 : decode cX9_parseLine 50 = .ok (.aload_n 0, 1) := dk_42 (dk_at dksX9_parseLine_2 3 rfl rfl)
theorem dX9_parseLine_51 : decode cX9_parseLine 51 = .ok (.ldc_w 266, 3) := dk_19 1 10 (dk_at dksX9_parseLine_2 4 rfl rfl)
theorem dX9_parseLine_54 : decode cX9_parseLine 54 = .ok (.invokevirtual 247, 3) := dk_182 0 247 (dk_at dksX9_parseLine_2 7 rfl rfl)
theorem dX9_parseLine_57 : decode cX9_parseLine 57 = .ok (.ifCond .eq 10, 3) := dk_153 0 10 (dk_at dksX9_parseLine_2 10 rfl rfl)
theorem dX9_parseLine_60 : decode cX9_parseLine 60 = .ok (.aload_n 0, 1) := dk_42 (dk_at dksX9_parseLine_2 13 rfl rfl)
theorem dX9_parseLine_61 : decode cX9_parseLine 61 = .ok (.invokevirtual 268, 3) := dk_182 1 12 (dk_at dksX9_parseLine_2 14 rfl rfl)
theorem dX9_parseLine_64 : decode cX9_parseLine 64 = .ok (.goto 7, 3) := dk_167 0 7 (dk_at dksX9_parseLine_2 17 rfl rfl)
theorem dX9_parseLine_67 : decode cX9_parseLine 67 = .ok (.aload_n 0, 1) := dk_42 (dk_at dksX9_parseLine_2 20 rfl rfl)
theorem dX9_parseLine_68 : decode cX9_parseLine 68 = .ok (.invokevirtual 271, 3) := dk_182 1 15 (dk_at dksX9_parseLine_2 21 rfl rfl)
theorem dX9_parseLine_71 : decode cX9_parseLine 71 = .ok (.aload_n 0, 1) := dk_42 (dk_at dksX9_parseLine_3 0 rfl rfl)
theorem dX9_parseLine_72 : decode cX9_parseLine 72 = .ok (.invokevirtual 274, 3) := dk_182 1 18 (dk_at dksX9_parseLine_3 1 rfl rfl)
theorem dX9_parseLine_75 : decode cX9_parseLine 75 = .ok (.return_, 1) := dk_177 (dk_at dksX9_parseLine_3 4 rfl rfl)
abbrev cX9_parseWall : ByteArray := prog_16_method_62_code
def yX9_parseWall : MethodName := ⟨RX9, "parseWall", "()V"⟩
def dkwX9_parseWall_1 : List UInt8 := [27, 96, 4, 79, 177]
abbrev dktX9_parseWall_1 : List UInt8 := dkwX9_parseWall_1 ++ []
def dkwX9_parseWall_0 : List UInt8 := [42, 182, 0, 216, 42, 4, 2, 182, 0, 238, 60, 42, 182, 0, 187, 153, 0, 13, 42, 180, 0, 7, 16, 15]
abbrev dktX9_parseWall_0 : List UInt8 := dkwX9_parseWall_0 ++ dktX9_parseWall_1
theorem dksX9_parseWall_0 : cX9_parseWall.data.toList.drop 0 = dktX9_parseWall_0 := by decide +kernel
theorem dksX9_parseWall_1 : cX9_parseWall.data.toList.drop 24 = dktX9_parseWall_1 := dk_seg dksX9_parseWall_0 24 rfl rfl
theorem dX9_parseWall_0 : decode cX9_parseWall 0 = .ok (.aload_n 0, 1) := dk_42 (dk_at dksX9_parseWall_0 0 rfl rfl)
theorem dX9_parseWall_1 : decode cX9_parseWall 1 = .ok (.invokevirtual 216, 3) := dk_182 0 216 (dk_at dksX9_parseWall_0 1 rfl rfl)
theorem dX9_parseWall_4 : decode cX9_parseWall 4 = .ok (.aload_n 0, 1) := dk_42 (dk_at dksX9_parseWall_0 4 rfl rfl)
theorem dX9_parseWall_5 : decode cX9_parseWall 5 = .ok (.iconst 1, 1) := dk_4 (dk_at dksX9_parseWall_0 5 rfl rfl)
theorem dX9_parseWall_6 : decode cX9_parseWall 6 = .ok (.iconst (-1), 1) := dk_2 (dk_at dksX9_parseWall_0 6 rfl rfl)
theorem dX9_parseWall_7 : decode cX9_parseWall 7 = .ok (.invokevirtual 238, 3) := dk_182 0 238 (dk_at dksX9_parseWall_0 7 rfl rfl)
theorem dX9_parseWall_10 : decode cX9_parseWall 10 = .ok (.istore_n 1, 1) := dk_60 (dk_at dksX9_parseWall_0 10 rfl rfl)
theorem dX9_parseWall_11 : decode cX9_parseWall 11 = .ok (.aload_n 0, 1) := dk_42 (dk_at dksX9_parseWall_0 11 rfl rfl)
theorem dX9_parseWall_12 : decode cX9_parseWall 12 = .ok (.invokevirtual 187, 3) := dk_182 0 187 (dk_at dksX9_parseWall_0 12 rfl rfl)
theorem dX9_parseWall_15 : decode cX9_parseWall 15 = .ok (.ifCond .eq 13, 3) := dk_153 0 13 (dk_at dksX9_parseWall_0 15 rfl rfl)
theorem dX9_parseWall_18 : decode cX9_parseWall 18 = .ok (.aload_n 0, 1) := dk_42 (dk_at dksX9_parseWall_0 18 rfl rfl)
theorem dX9_parseWall_19 : decode cX9_parseWall 19 = .ok (.getfield 7, 3) := dk_180 0 7 (dk_at dksX9_parseWall_0 19 rfl rfl)
theorem dX9_parseWall_22 : decode cX9_parseWall 22 = .ok (.bipush 15, 2) := dk_16 15 (dk_at dksX9_parseWall_0 22 rfl rfl)
theorem dX9_parseWall_24 : decode cX9_parseWall 24 = .ok (.iload_n 1, 1) := dk_27 (dk_at dksX9_parseWall_1 0 rfl rfl)
theorem dX9_parseWall_25 : decode cX9_parseWall 25 = .ok (.iadd, 1) := dk_96 (dk_at dksX9_parseWall_1 1 rfl rfl)
theorem dX9_parseWall_26 : decode cX9_parseWall 26 = .ok (.iconst 1, 1) := dk_4 (dk_at dksX9_parseWall_1 2 rfl rfl)
theorem dX9_parseWall_27 : decode cX9_parseWall 27 = .ok (.iastore, 1) := dk_79 (dk_at dksX9_parseWall_1 3 rfl rfl)
theorem dX9_parseWall_28 : decode cX9_parseWall 28 = .ok (.return_, 1) := dk_177 (dk_at dksX9_parseWall_1 4 rfl rfl)
abbrev cX9_parseCell : ByteArray := prog_16_method_61_code
def yX9_parseCell : MethodName := ⟨RX9, "parseCell", "(ZI)I"⟩
def dkwX9_parseCell_4 : List UInt8 := [153, 0, 10, 42, 180, 0, 209, 167, 0, 4, 3, 62, 42, 182, 0, 216, 29, 172]
abbrev dktX9_parseCell_4 : List UInt8 := dkwX9_parseCell_4 ++ []
def dkwX9_parseCell_3 : List UInt8 := [180, 0, 209, 182, 0, 235, 154, 0, 7, 4, 167, 0, 4, 3, 6, 182, 0, 228, 42, 182, 0, 187]
abbrev dktX9_parseCell_3 : List UInt8 := dkwX9_parseCell_3 ++ dktX9_parseCell_4
def dkwX9_parseCell_2 : List UInt8 := [180, 0, 209, 182, 0, 125, 154, 0, 30, 42, 180, 0, 209, 28, 159, 0, 22, 27, 153, 0, 14, 42, 42]
abbrev dktX9_parseCell_2 : List UInt8 := dkwX9_parseCell_2 ++ dktX9_parseCell_3
def dkwX9_parseCell_1 : List UInt8 := [42, 182, 0, 84, 4, 100, 184, 0, 88, 5, 182, 0, 228, 42, 42, 182, 0, 187, 153, 0, 37, 42, 42]
abbrev dktX9_parseCell_1 : List UInt8 := dkwX9_parseCell_1 ++ dktX9_parseCell_2
def dkwX9_parseCell_0 : List UInt8 := [42, 42, 180, 0, 200, 5, 160, 0, 7, 4, 167, 0, 4, 3, 4, 182, 0, 228, 42, 42, 180, 0, 209, 3]
abbrev dktX9_parseCell_0 : List UInt8 := dkwX9_parseCell_0 ++ dktX9_parseCell_1
theorem dksX9_parseCell_0 : cX9_parseCell.data.toList.drop 0 = dktX9_parseCell_0 := by decide +kernel
theorem dksX9_parseCell_1 : cX9_parseCell.data.toList.drop 24 = dktX9_parseCell_1 := dk_seg dksX9_parseCell_0 24 rfl rfl
theorem dksX9_parseCell_2 : cX9_parseCell.data.toList.drop 47 = dktX9_parseCell_2 := dk_seg dksX9_parseCell_1 23 rfl rfl
theorem dksX9_parseCell_3 : cX9_parseCell.data.toList.drop 70 = dktX9_parseCell_3 := dk_seg dksX9_parseCell_2 23 rfl rfl
theorem dksX9_parseCell_4 : cX9_parseCell.data.toList.drop 92 = dktX9_parseCell_4 := dk_seg dksX9_parseCell_3 22 rfl rfl
theorem dX9_parseCell_0 : decode cX9_parseCell 0 = .ok (.aload_n 0, 1) := dk_42 (dk_at dksX9_parseCell_0 0 rfl rfl)
theorem dX9_parseCell_1 : decode cX9_parseCell 1 = .ok (.aload_n 0, 1) := dk_42 (dk_at dksX9_parseCell_0 1 rfl rfl)
theorem dX9_parseCell_2 : decode cX9_parseCell 2 = .ok (.getfield 200, 3) := dk_180 0 200 (dk_at dksX9_parseCell_0 2 rfl rfl)
theorem dX9_parseCell_5 : decode cX9_parseCell 5 = .ok (.iconst 2, 1) := dk_5 (dk_at dksX9_parseCell_0 5 rfl rfl)
theorem dX9_parseCell_6 : decode cX9_parseCell 6 = .ok (.if_icmp .ne 7, 3) := dk_160 0 7 (dk_at dksX9_parseCell_0 6 rfl rfl)
theorem dX9_parseCell_9 : decode cX9_parseCell 9 = .ok (.iconst 1, 1) := dk_4 (dk_at dksX9_parseCell_0 9 rfl rfl)
theorem dX9_parseCell_10 : decode cX9_parseCell 10 = .ok (.goto 4, 3) := dk_167 0 4 (dk_at dksX9_parseCell_0 10 rfl rfl)
theorem dX9_parseCell_13 : decode cX9_parseCell 13 = .ok (.iconst 0, 1) := dk_3 (dk_at dksX9_parseCell_0 13 rfl rfl)
theorem dX9_parseCell_14 : decode cX9_parseCell 14 = .ok (.iconst 1, 1) := dk_4 (dk_at dksX9_parseCell_0 14 rfl rfl)
theorem dX9_parseCell_15 : decode cX9_parseCell 15 = .ok (.invokevirtual 228, 3) := dk_182 0 228 (dk_at dksX9_parseCell_0 15 rfl rfl)
theorem dX9_parseCell_18 : decode cX9_parseCell 18 = .ok (.aload_n 0, 1) := dk_42 (dk_at dksX9_parseCell_0 18 rfl rfl)
theorem dX9_parseCell_19 : decode cX9_parseCell 19 = .ok (.aload_n 0, 1) := dk_42 (dk_at dksX9_parseCell_0 19 rfl rfl)
theorem dX9_parseCell_20 : decode cX9_parseCell 20 = .ok (.getfield 209, 3) := dk_180 0 209 (dk_at dksX9_parseCell_0 20 rfl rfl)
theorem dX9_parseCell_23 : decode cX9_parseCell 23 = .ok (.iconst 0, 1) := dk_3 (dk_at dksX9_parseCell_0 23 rfl rfl)
theorem dX9_parseCell_24 : decode cX9_parseCell 24 = .ok (.aload_n 0, 1) := dk_42 (dk_at dksX9_parseCell_1 0 rfl rfl)
theorem dX9_parseCell_25 : decode cX9_parseCell 25 = .ok (.invokevirtual 84, 3) := dk_182 0 84 (dk_at dksX9_parseCell_1 1 rfl rfl)
theorem dX9_parseCell_28 : decode cX9_parseCell 28 = .ok (.iconst 1, 1) := dk_4 (dk_at dksX9_parseCell_1 4 rfl rfl)
theorem dX9_parseCell_29 : decode cX9_parseCell 29 = .ok (.isub, 1) := dk_100 (dk_at dksX9_parseCell_1 5 rfl rfl)
theorem dX9_parseCell_30 : decode cX9_parseCell 30 = .ok (.invokestatic 88, 3) := dk_184 0 88 (dk_at dksX9_parseCell_1 6 rfl rfl)
theorem dX9_parseCell_33 : decode cX9_parseCell 33 = .ok (.iconst 2, 1) := dk_5 (dk_at dksX9_parseCell_1 9 rfl rfl)
theorem dX9_parseCell_34 : decode cX9_parseCell 34 = .ok (.invokevirtual 228, 3) := dk_182 0 228 (dk_at dksX9_parseCell_1 10 rfl rfl)
theorem dX9_parseCell_37 : decode cX9_parseCell 37 = .ok (.aload_n 0, 1) := dk_42 (dk_at dksX9_parseCell_1 13 rfl rfl)
theorem dX9_parseCell_38 : decode cX9_parseCell 38 = .ok (.aload_n 0, 1) := dk_42 (dk_at dksX9_parseCell_1 14 rfl rfl)
theorem dX9_parseCell_39 : decode cX9_parseCell 39 = .ok (.invokevirtual 187, 3) := dk_182 0 187 (dk_at dksX9_parseCell_1 15 rfl rfl)
theorem dX9_parseCell_42 : decode cX9_parseCell 42 = .ok (.ifCond .eq 37, 3) := dk_153 0 37 (dk_at dksX9_parseCell_1 18 rfl rfl)
theorem dX9_parseCell_45 : decode cX9_parseCell 45 = .ok (.aload_n 0, 1) := dk_42 (dk_at dksX9_parseCell_1 21 rfl rfl)
theorem dX9_parseCell_46 : decode cX9_parseCell 46 = .ok (.aload_n 0, 1) := dk_42 (dk_at dksX9_parseCell_1 22 rfl rfl)
theorem dX9_parseCell_47 : decode cX9_parseCell 47 = .ok (.getfield 209, 3) := dk_180 0 209 (dk_at dksX9_parseCell_2 0 rfl rfl)
theorem dX9_parseCell_50 : decode cX9_parseCell 50 = .ok (.invokevirtual 125, 3) := dk_182 0 125 (dk_at dksX9_parseCell_2 3 rfl rfl)
theorem dX9_parseCell_53 : decode cX9_parseCell 53 = .ok (.ifCond .ne 30, 3) := dk_154 0 30 (dk_at dksX9_parseCell_2 6 rfl rfl)
theorem dX9_parseCell_56 : decode cX9_parseCell 56 = .ok (.aload_n 0, 1) := dk_42 (dk_at dksX9_parseCell_2 9 rfl rfl)
theorem dX9_parseCell_57 : decode cX9_parseCell 57 = .ok (.getfield 209, 3) := dk_180 0 209 (dk_at dksX9_parseCell_2 10 rfl rfl)
theorem dX9_parseCell_60 : decode cX9_parseCell 60 = .ok (.iload_n 2, 1) := dk_28 (dk_at dksX9_parseCell_2 13 rfl rfl)
theorem dX9_parseCell_61 : decode cX9_parseCell 61 = .ok (.if_icmp .eq 22, 3) := dk_159 0 22 (dk_at dksX9_parseCell_2 14 rfl rfl)
theorem dX9_parseCell_64 : decode cX9_parseCell 64 = .ok (.iload_n 1, 1) := dk_27 (dk_at dksX9_parseCell_2 17 rfl rfl)
theorem dX9_parseCell_65 : decode cX9_parseCell 65 = .ok (.ifCond .eq 14, 3) := dk_153 0 14 (dk_at dksX9_parseCell_2 18 rfl rfl)
theorem dX9_parseCell_68 : decode cX9_parseCell 68 = .ok (.aload_n 0, 1) := dk_42 (dk_at dksX9_parseCell_2 21 rfl rfl)
theorem dX9_parseCell_69 : decode cX9_parseCell 69 = .ok (.aload_n 0, 1) := dk_42 (dk_at dksX9_parseCell_2 22 rfl rfl)
theorem dX9_parseCell_70 : decode cX9_parseCell 70 = .ok (.getfield 209, 3) := dk_180 0 209 (dk_at dksX9_parseCell_3 0 rfl rfl)
theorem dX9_parseCell_73 : decode cX9_parseCell 73 = .ok (.invokevirtual 235, 3) := dk_182 0 235 (dk_at dksX9_parseCell_3 3 rfl rfl)
theorem dX9_parseCell_76 : decode cX9_parseCell 76 = .ok (.ifCond .ne 7, 3) := dk_154 0 7 (dk_at dksX9_parseCell_3 6 rfl rfl)
theorem dX9_parseCell_79 : decode cX9_parseCell 79 = .ok (.iconst 1, 1) := dk_4 (dk_at dksX9_parseCell_3 9 rfl rfl)
theorem dX9_parseCell_80 : decode cX9_parseCell 80 = .ok (.goto 4, 3) := dk_167 0 4 (dk_at dksX9_parseCell_3 10 rfl rfl)
theorem dX9_parseCell_83 : decode cX9_parseCell 83 = .ok (.iconst 0, 1) := dk_3 (dk_at dksX9_parseCell_3 13 rfl rfl)
theorem dX9_parseCell_84 : decode cX9_parseCell 84 = .ok (.iconst 3, 1) := dk_6 (dk_at dksX9_parseCell_3 14 rfl rfl)
theorem dX9_parseCell_85 : decode cX9_parseCell 85 = .ok (.invokevirtual 228, 3) := dk_182 0 228 (dk_at dksX9_parseCell_3 15 rfl rfl)
theorem dX9_parseCell_88 : decode cX9_parseCell 88 = .ok (.aload_n 0, 1) := dk_42 (dk_at dksX9_parseCell_3 18 rfl rfl)
theorem dX9_parseCell_89 : decode cX9_parseCell 89 = .ok (.invokevirtual 187, 3) := dk_182 0 187 (dk_at dksX9_parseCell_3 19 rfl rfl)
theorem dX9_parseCell_92 : decode cX9_parseCell 92 = .ok (.ifCond .eq 10, 3) := dk_153 0 10 (dk_at dksX9_parseCell_4 0 rfl rfl)
theorem dX9_parseCell_95 : decode cX9_parseCell 95 = .ok (.aload_n 0, 1) := dk_42 (dk_at dksX9_parseCell_4 3 rfl rfl)
theorem dX9_parseCell_96 : decode cX9_parseCell 96 = .ok (.getfield 209, 3) := dk_180 0 209 (dk_at dksX9_parseCell_4 4 rfl rfl)
theorem dX9_parseCell_99 : decode cX9_parseCell 99 = .ok (.goto 4, 3) := dk_167 0 4 (dk_at dksX9_parseCell_4 7 rfl rfl)
theorem dX9_parseCell_102 : decode cX9_parseCell 102 = .ok (.iconst 0, 1) := dk_3 (dk_at dksX9_parseCell_4 10 rfl rfl)
theorem dX9_parseCell_103 : decode cX9_parseCell 103 = .ok (.istore_n 3, 1) := dk_62 (dk_at dksX9_parseCell_4 11 rfl rfl)
theorem dX9_parseCell_104 : decode cX9_parseCell 104 = .ok (.aload_n 0, 1) := dk_42 (dk_at dksX9_parseCell_4 12 rfl rfl)
theorem dX9_parseCell_105 : decode cX9_parseCell 105 = .ok (.invokevirtual 216, 3) := dk_182 0 216 (dk_at dksX9_parseCell_4 13 rfl rfl)
theorem dX9_parseCell_108 : decode cX9_parseCell 108 = .ok (.iload_n 3, 1) := dk_29 (dk_at dksX9_parseCell_4 16 rfl rfl)
theorem dX9_parseCell_109 : decode cX9_parseCell 109 = .ok (.ireturn, 1) := dk_172 (dk_at dksX9_parseCell_4 17 rfl rfl)
abbrev cX9_cells : ByteArray := prog_16_method_18_code
def yX9_cells : MethodName := ⟨RX9, "cells", "()I"⟩
def dkwX9_cells_0 : List UInt8 := [42, 180, 0, 7, 3, 46, 42, 180, 0, 7, 4, 46, 104, 172]
abbrev dktX9_cells_0 : List UInt8 := dkwX9_cells_0 ++ []
theorem dksX9_cells_0 : cX9_cells.data.toList.drop 0 = dktX9_cells_0 := by decide +kernel
theorem dX9_cells_0 : decode cX9_cells 0 = .ok (.aload_n 0, 1) := dk_42 (dk_at dksX9_cells_0 0 rfl rfl)
theorem dX9_cells_1 : decode cX9_cells 1 = .ok (.getfield 7, 3) := dk_180 0 7 (dk_at dksX9_cells_0 1 rfl rfl)
theorem dX9_cells_4 : decode cX9_cells 4 = .ok (.iconst 0, 1) := dk_3 (dk_at dksX9_cells_0 4 rfl rfl)
theorem dX9_cells_5 : decode cX9_cells 5 = .ok (.iaload, 1) := dk_46 (dk_at dksX9_cells_0 5 rfl rfl)
theorem dX9_cells_6 : decode cX9_cells 6 = .ok (.aload_n 0, 1) := dk_42 (dk_at dksX9_cells_0 6 rfl rfl)
theorem dX9_cells_7 : decode cX9_cells 7 = .ok (.getfield 7, 3) := dk_180 0 7 (dk_at dksX9_cells_0 7 rfl rfl)
theorem dX9_cells_10 : decode cX9_cells 10 = .ok (.iconst 1, 1) := dk_4 (dk_at dksX9_cells_0 10 rfl rfl)
theorem dX9_cells_11 : decode cX9_cells 11 = .ok (.iaload, 1) := dk_46 (dk_at dksX9_cells_0 11 rfl rfl)
theorem dX9_cells_12 : decode cX9_cells 12 = .ok (.imul, 1) := dk_104 (dk_at dksX9_cells_0 12 rfl rfl)
theorem dX9_cells_13 : decode cX9_cells 13 = .ok (.ireturn, 1) := dk_172 (dk_at dksX9_cells_0 13 rfl rfl)
abbrev cX9_isWall : ByteArray := prog_16_method_20_code
def yX9_isWall : MethodName := ⟨RX9, "isWall", "(I)Z"⟩
def dkwX9_isWall_0 : List UInt8 := [42, 180, 0, 7, 16, 15, 27, 96, 46, 4, 160, 0, 7, 4, 167, 0, 4, 3, 172]
abbrev dktX9_isWall_0 : List UInt8 := dkwX9_isWall_0 ++ []
theorem dksX9_isWall_0 : cX9_isWall.data.toList.drop 0 = dktX9_isWall_0 := by decide +kernel
theorem dX9_isWall_0 : decode cX9_isWall 0 = .ok (.aload_n 0, 1) := dk_42 (dk_at dksX9_isWall_0 0 rfl rfl)
theorem dX9_isWall_1 : decode cX9_isWall 1 = .ok (.getfield 7, 3) := dk_180 0 7 (dk_at dksX9_isWall_0 1 rfl rfl)
theorem dX9_isWall_4 : decode cX9_isWall 4 = .ok (.bipush 15, 2) := dk_16 15 (dk_at dksX9_isWall_0 4 rfl rfl)
theorem dX9_isWall_6 : decode cX9_isWall 6 = .ok (.iload_n 1, 1) := dk_27 (dk_at dksX9_isWall_0 6 rfl rfl)
theorem dX9_isWall_7 : decode cX9_isWall 7 = .ok (.iadd, 1) := dk_96 (dk_at dksX9_isWall_0 7 rfl rfl)
theorem dX9_isWall_8 : decode cX9_isWall 8 = .ok (.iaload, 1) := dk_46 (dk_at dksX9_isWall_0 8 rfl rfl)
theorem dX9_isWall_9 : decode cX9_isWall 9 = .ok (.iconst 1, 1) := dk_4 (dk_at dksX9_isWall_0 9 rfl rfl)
theorem dX9_isWall_10 : decode cX9_isWall 10 = .ok (.if_icmp .ne 7, 3) := dk_160 0 7 (dk_at dksX9_isWall_0 10 rfl rfl)
theorem dX9_isWall_13 : decode cX9_isWall 13 = .ok (.iconst 1, 1) := dk_4 (dk_at dksX9_isWall_0 13 rfl rfl)
theorem dX9_isWall_14 : decode cX9_isWall 14 = .ok (.goto 4, 3) := dk_167 0 4 (dk_at dksX9_isWall_0 14 rfl rfl)
theorem dX9_isWall_17 : decode cX9_isWall 17 = .ok (.iconst 0, 1) := dk_3 (dk_at dksX9_isWall_0 17 rfl rfl)
theorem dX9_isWall_18 : decode cX9_isWall 18 = .ok (.ireturn, 1) := dk_172 (dk_at dksX9_isWall_0 18 rfl rfl)
abbrev cX9_isTold : ByteArray := prog_16_method_60_code
def yX9_isTold : MethodName := ⟨RX9, "isTold", "(I)Z"⟩
def dkwX9_isTold_4 : List UInt8 := [172, 132, 2, 1, 167, 255, 220, 3, 172]
abbrev dktX9_isTold_4 : List UInt8 := dkwX9_isTold_4 ++ []
def dkwX9_isTold_3 : List UInt8 := [162, 0, 31, 42, 28, 3, 182, 0, 160, 27, 159, 0, 13, 42, 28, 4, 182, 0, 160, 27, 160, 0, 5, 4]
abbrev dktX9_isTold_3 : List UInt8 := dkwX9_isTold_3 ++ dktX9_isTold_4
def dkwX9_isTold_2 : List UInt8 := [27, 160, 0, 5, 4, 172, 132, 2, 1, 167, 255, 231, 3, 61, 28, 42, 180, 0, 7, 16, 6, 46]
abbrev dktX9_isTold_2 : List UInt8 := dkwX9_isTold_2 ++ dktX9_isTold_3
def dkwX9_isTold_1 : List UInt8 := [132, 2, 1, 167, 255, 231, 3, 61, 28, 42, 180, 0, 7, 8, 46, 162, 0, 21, 42, 28, 3, 182, 0, 80]
abbrev dktX9_isTold_1 : List UInt8 := dkwX9_isTold_1 ++ dktX9_isTold_2
def dkwX9_isTold_0 : List UInt8 := [3, 61, 28, 42, 180, 0, 7, 7, 46, 162, 0, 21, 42, 28, 3, 182, 0, 119, 27, 160, 0, 5, 4, 172]
abbrev dktX9_isTold_0 : List UInt8 := dkwX9_isTold_0 ++ dktX9_isTold_1
theorem dksX9_isTold_0 : cX9_isTold.data.toList.drop 0 = dktX9_isTold_0 := by decide +kernel
theorem dksX9_isTold_1 : cX9_isTold.data.toList.drop 24 = dktX9_isTold_1 := dk_seg dksX9_isTold_0 24 rfl rfl
theorem dksX9_isTold_2 : cX9_isTold.data.toList.drop 48 = dktX9_isTold_2 := dk_seg dksX9_isTold_1 24 rfl rfl
theorem dksX9_isTold_3 : cX9_isTold.data.toList.drop 70 = dktX9_isTold_3 := dk_seg dksX9_isTold_2 22 rfl rfl
theorem dksX9_isTold_4 : cX9_isTold.data.toList.drop 94 = dktX9_isTold_4 := dk_seg dksX9_isTold_3 24 rfl rfl
theorem dX9_isTold_0 : decode cX9_isTold 0 = .ok (.iconst 0, 1) := dk_3 (dk_at dksX9_isTold_0 0 rfl rfl)
theorem dX9_isTold_1 : decode cX9_isTold 1 = .ok (.istore_n 2, 1) := dk_61 (dk_at dksX9_isTold_0 1 rfl rfl)
theorem dX9_isTold_2 : decode cX9_isTold 2 = .ok (.iload_n 2, 1) := dk_28 (dk_at dksX9_isTold_0 2 rfl rfl)
theorem dX9_isTold_3 : decode cX9_isTold 3 = .ok (.aload_n 0, 1) := dk_42 (dk_at dksX9_isTold_0 3 rfl rfl)
theorem dX9_isTold_4 : decode cX9_isTold 4 = .ok (.getfield 7, 3) := dk_180 0 7 (dk_at dksX9_isTold_0 4 rfl rfl)
theorem dX9_isTold_7 : decode cX9_isTold 7 = .ok (.iconst 4, 1) := dk_7 (dk_at dksX9_isTold_0 7 rfl rfl)
theorem dX9_isTold_8 : decode cX9_isTold 8 = .ok (.iaload, 1) := dk_46 (dk_at dksX9_isTold_0 8 rfl rfl)
theorem dX9_isTold_9 : decode cX9_isTold 9 = .ok (.if_icmp .ge 21, 3) := dk_162 0 21 (dk_at dksX9_isTold_0 9 rfl rfl)
theorem dX9_isTold_12 : decode cX9_isTold 12 = .ok (.aload_n 0, 1) := dk_42 (dk_at dksX9_isTold_0 12 rfl rfl)
theorem dX9_isTold_13 : decode cX9_isTold 13 = .ok (.iload_n 2, 1) := dk_28 (dk_at dksX9_isTold_0 13 rfl rfl)
theorem dX9_isTold_14 : decode cX9_isTold 14 = .ok (.iconst 0, 1) := dk_3 (dk_at dksX9_isTold_0 14 rfl rfl)
theorem dX9_isTold_15 : decode cX9_isTold 15 = .ok (.invokevirtual 119, 3) := dk_182 0 119 (dk_at dksX9_isTold_0 15 rfl rfl)
theorem dX9_isTold_18 : decode cX9_isTold 18 = .ok (.iload_n 1, 1) := dk_27 (dk_at dksX9_isTold_0 18 rfl rfl)
theorem dX9_isTold_19 : decode cX9_isTold 19 = .ok (.if_icmp .ne 5, 3) := dk_160 0 5 (dk_at dksX9_isTold_0 19 rfl rfl)
theorem dX9_isTold_22 : decode cX9_isTold 22 = .ok (.iconst 1, 1) := dk_4 (dk_at dksX9_isTold_0 22 rfl rfl)
theorem dX9_isTold_23 : decode cX9_isTold 23 = .ok (.ireturn, 1) := dk_172 (dk_at dksX9_isTold_0 23 rfl rfl)
theorem dX9_isTold_24 : decode cX9_isTold 24 = .ok (.iinc 2 1, 3) := dk_132 2 1 (dk_at dksX9_isTold_1 0 rfl rfl)
theorem dX9_isTold_27 : decode cX9_isTold 27 = .ok (.goto (-25), 3) := dk_167 255 231 (dk_at dksX9_isTold_1 3 rfl rfl)
theorem dX9_isTold_30 : decode cX9_isTold 30 = .ok (.iconst 0, 1) := dk_3 (dk_at dksX9_isTold_1 6 rfl rfl)
theorem dX9_isTold_31 : decode cX9_isTold 31 = .ok (.istore_n 2, 1) := dk_61 (dk_at dksX9_isTold_1 7 rfl rfl)
theorem dX9_isTold_32 : decode cX9_isTold 32 = .ok (.iload_n 2, 1) := dk_28 (dk_at dksX9_isTold_1 8 rfl rfl)
theorem dX9_isTold_33 : decode cX9_isTold 33 = .ok (.aload_n 0, 1) := dk_42 (dk_at dksX9_isTold_1 9 rfl rfl)
theorem dX9_isTold_34 : decode cX9_isTold 34 = .ok (.getfield 7, 3) := dk_180 0 7 (dk_at dksX9_isTold_1 10 rfl rfl)
theorem dX9_isTold_37 : decode cX9_isTold 37 = .ok (.iconst 5, 1) := dk_8 (dk_at dksX9_isTold_1 13 rfl rfl)
theorem dX9_isTold_38 : decode cX9_isTold 38 = .ok (.iaload, 1) := dk_46 (dk_at dksX9_isTold_1 14 rfl rfl)
theorem dX9_isTold_39 : decode cX9_isTold 39 = .ok (.if_icmp .ge 21, 3) := dk_162 0 21 (dk_at dksX9_isTold_1 15 rfl rfl)
theorem dX9_isTold_42 : decode cX9_isTold 42 = .ok (.aload_n 0, 1) := dk_42 (dk_at dksX9_isTold_1 18 rfl rfl)
theorem dX9_isTold_43 : decode cX9_isTold 43 = .ok (.iload_n 2, 1) := dk_28 (dk_at dksX9_isTold_1 19 rfl rfl)
theorem dX9_isTold_44 : decode cX9_isTold 44 = .ok (.iconst 0, 1) := dk_3 (dk_at dksX9_isTold_1 20 rfl rfl)
theorem dX9_isTold_45 : decode cX9_isTold 45 = .ok (.invokevirtual 80, 3) := dk_182 0 80 (dk_at dksX9_isTold_1 21 rfl rfl)
theorem dX9_isTold_48 : decode cX9_isTold 48 = .ok (.iload_n 1, 1) := dk_27 (dk_at dksX9_isTold_2 0 rfl rfl)
theorem dX9_isTold_49 : decode cX9_isTold 49 = .ok (.if_icmp .ne 5, 3) := dk_160 0 5 (dk_at dksX9_isTold_2 1 rfl rfl)
theorem dX9_isTold_52 : decode cX9_isTold 52 = .ok (.iconst 1, 1) := dk_4 (dk_at dksX9_isTold_2 4 rfl rfl)
theorem dX9_isTold_53 : decode cX9_isTold 53 = .ok (.ireturn, 1) := dk_172 (dk_at dksX9_isTold_2 5 rfl rfl)
theorem dX9_isTold_54 : decode cX9_isTold 54 = .ok (.iinc 2 1, 3) := dk_132 2 1 (dk_at dksX9_isTold_2 6 rfl rfl)
theorem dX9_isTold_57 : decode cX9_isTold 57 = .ok (.goto (-25), 3) := dk_167 255 231 (dk_at dksX9_isTold_2 9 rfl rfl)
theorem dX9_isTold_60 : decode cX9_isTold 60 = .ok (.iconst 0, 1) := dk_3 (dk_at dksX9_isTold_2 12 rfl rfl)
theorem dX9_isTold_61 : decode cX9_isTold 61 = .ok (.istore_n 2, 1) := dk_61 (dk_at dksX9_isTold_2 13 rfl rfl)
theorem dX9_isTold_62 : decode cX9_isTold 62 = .ok (.iload_n 2, 1) := dk_28 (dk_at dksX9_isTold_2 14 rfl rfl)
theorem dX9_isTold_63 : decode cX9_isTold 63 = .ok (.aload_n 0, 1) := dk_42 (dk_at dksX9_isTold_2 15 rfl rfl)
theorem dX9_isTold_64 : decode cX9_isTold 64 = .ok (.getfield 7, 3) := dk_180 0 7 (dk_at dksX9_isTold_2 16 rfl rfl)
theorem dX9_isTold_67 : decode cX9_isTold 67 = .ok (.bipush 6, 2) := dk_16 6 (dk_at dksX9_isTold_2 19 rfl rfl)
theorem dX9_isTold_69 : decode cX9_isTold 69 = .ok (.iaload, 1) := dk_46 (dk_at dksX9_isTold_2 21 rfl rfl)
theorem dX9_isTold_70 : decode cX9_isTold 70 = .ok (.if_icmp .ge 31, 3) := dk_162 0 31 (dk_at dksX9_isTold_3 0 rfl rfl)
theorem dX9_isTold_73 : decode cX9_isTold 73 = .ok (.aload_n 0, 1) := dk_42 (dk_at dksX9_isTold_3 3 rfl rfl)
theorem dX9_isTold_74 : decode cX9_isTold 74 = .ok (.iload_n 2, 1) := dk_28 (dk_at dksX9_isTold_3 4 rfl rfl)
theorem dX9_isTold_75 : decode cX9_isTold 75 = .ok (.iconst 0, 1) := dk_3 (dk_at dksX9_isTold_3 5 rfl rfl)
theorem dX9_isTold_76 : decode cX9_isTold 76 = .ok (.invokevirtual 160, 3) := dk_182 0 160 (dk_at dksX9_isTold_3 6 rfl rfl)
theorem dX9_isTold_79 : decode cX9_isTold 79 = .ok (.iload_n 1, 1) := dk_27 (dk_at dksX9_isTold_3 9 rfl rfl)
theorem dX9_isTold_80 : decode cX9_isTold 80 = .ok (.if_icmp .eq 13, 3) := dk_159 0 13 (dk_at dksX9_isTold_3 10 rfl rfl)
theorem dX9_isTold_83 : decode cX9_isTold 83 = .ok (.aload_n 0, 1) := dk_42 (dk_at dksX9_isTold_3 13 rfl rfl)
theorem dX9_isTold_84 : decode cX9_isTold 84 = .ok (.iload_n 2, 1) := dk_28 (dk_at dksX9_isTold_3 14 rfl rfl)
theorem dX9_isTold_85 : decode cX9_isTold 85 = .ok (.iconst 1, 1) := dk_4 (dk_at dksX9_isTold_3 15 rfl rfl)
theorem dX9_isTold_86 : decode cX9_isTold 86 = .ok (.invokevirtual 160, 3) := dk_182 0 160 (dk_at dksX9_isTold_3 16 rfl rfl)
theorem dX9_isTold_89 : decode cX9_isTold 89 = .ok (.iload_n 1, 1) := dk_27 (dk_at dksX9_isTold_3 19 rfl rfl)
theorem dX9_isTold_90 : decode cX9_isTold 90 = .ok (.if_icmp .ne 5, 3) := dk_160 0 5 (dk_at dksX9_isTold_3 20 rfl rfl)
theorem dX9_isTold_93 : decode cX9_isTold 93 = .ok (.iconst 1, 1) := dk_4 (dk_at dksX9_isTold_3 23 rfl rfl)
theorem dX9_isTold_94 : decode cX9_isTold 94 = .ok (.ireturn, 1) := dk_172 (dk_at dksX9_isTold_4 0 rfl rfl)
theorem dX9_isTold_95 : decode cX9_isTold 95 = .ok (.iinc 2 1, 3) := dk_132 2 1 (dk_at dksX9_isTold_4 1 rfl rfl)
theorem dX9_isTold_98 : decode cX9_isTold 98 = .ok (.goto (-36), 3) := dk_167 255 220 (dk_at dksX9_isTold_4 4 rfl rfl)
theorem dX9_isTold_101 : decode cX9_isTold 101 = .ok (.iconst 0, 1) := dk_3 (dk_at dksX9_isTold_4 7 rfl rfl)
theorem dX9_isTold_102 : decode cX9_isTold 102 = .ok (.ireturn, 1) := dk_172 (dk_at dksX9_isTold_4 8 rfl rfl)
abbrev cX9_ofWatcher : ByteArray := prog_16_method_12_code
def yX9_ofWatcher : MethodName := ⟨RX9, "ofWatcher", "(II)I"⟩
def dkwX9_ofWatcher_0 : List UInt8 := [42, 180, 0, 7, 16, 116, 7, 27, 104, 96, 28, 96, 46, 172]
abbrev dktX9_ofWatcher_0 : List UInt8 := dkwX9_ofWatcher_0 ++ []
theorem dksX9_ofWatcher_0 : cX9_ofWatcher.data.toList.drop 0 = dktX9_ofWatcher_0 := by decide +kernel
theorem dX9_ofWatcher_0 : decode cX9_ofWatcher 0 = .ok (.aload_n 0, 1) := dk_42 (dk_at dksX9_ofWatcher_0 0 rfl rfl)
theorem dX9_ofWatcher_1 : decode cX9_ofWatcher 1 = .ok (.getfield 7, 3) := dk_180 0 7 (dk_at dksX9_ofWatcher_0 1 rfl rfl)
theorem dX9_ofWatcher_4 : decode cX9_ofWatcher 4 = .ok (.bipush 116, 2) := dk_16 116 (dk_at dksX9_ofWatcher_0 4 rfl rfl)
theorem dX9_ofWatcher_6 : decode cX9_ofWatcher 6 = .ok (.iconst 4, 1) := dk_7 (dk_at dksX9_ofWatcher_0 6 rfl rfl)
theorem dX9_ofWatcher_7 : decode cX9_ofWatcher 7 = .ok (.iload_n 1, 1) := dk_27 (dk_at dksX9_ofWatcher_0 7 rfl rfl)
theorem dX9_ofWatcher_8 : decode cX9_ofWatcher 8 = .ok (.imul, 1) := dk_104 (dk_at dksX9_ofWatcher_0 8 rfl rfl)
theorem dX9_ofWatcher_9 : decode cX9_ofWatcher 9 = .ok (.iadd, 1) := dk_96 (dk_at dksX9_ofWatcher_0 9 rfl rfl)
theorem dX9_ofWatcher_10 : decode cX9_ofWatcher 10 = .ok (.iload_n 2, 1) := dk_28 (dk_at dksX9_ofWatcher_0 10 rfl rfl)
theorem dX9_ofWatcher_11 : decode cX9_ofWatcher 11 = .ok (.iadd, 1) := dk_96 (dk_at dksX9_ofWatcher_0 11 rfl rfl)
theorem dX9_ofWatcher_12 : decode cX9_ofWatcher 12 = .ok (.iaload, 1) := dk_46 (dk_at dksX9_ofWatcher_0 12 rfl rfl)
theorem dX9_ofWatcher_13 : decode cX9_ofWatcher 13 = .ok (.ireturn, 1) := dk_172 (dk_at dksX9_ofWatcher_0 13 rfl rfl)
abbrev cX9_of : ByteArray := prog_16_method_13_code
def yX9_of : MethodName := ⟨RX9, "of", "(II)I"⟩
def dkwX9_of_0 : List UInt8 := [42, 180, 0, 7, 17, 0, 132, 16, 6, 27, 104, 96, 28, 96, 46, 172]
abbrev dktX9_of_0 : List UInt8 := dkwX9_of_0 ++ []
theorem dksX9_of_0 : cX9_of.data.toList.drop 0 = dktX9_of_0 := by decide +kernel
theorem dX9_of_0 : decode cX9_of 0 = .ok (.aload_n 0, 1) := dk_42 (dk_at dksX9_of_0 0 rfl rfl)
theorem dX9_of_1 : decode cX9_of 1 = .ok (.getfield 7, 3) := dk_180 0 7 (dk_at dksX9_of_0 1 rfl rfl)
theorem dX9_of_4 : decode cX9_of 4 = .ok (.sipush 132, 3) := dk_17 0 132 (dk_at dksX9_of_0 4 rfl rfl)
theorem dX9_of_7 : decode cX9_of 7 = .ok (.bipush 6, 2) := dk_16 6 (dk_at dksX9_of_0 7 rfl rfl)
theorem dX9_of_9 : decode cX9_of 9 = .ok (.iload_n 1, 1) := dk_27 (dk_at dksX9_of_0 9 rfl rfl)
theorem dX9_of_10 : decode cX9_of 10 = .ok (.imul, 1) := dk_104 (dk_at dksX9_of_0 10 rfl rfl)
theorem dX9_of_11 : decode cX9_of 11 = .ok (.iadd, 1) := dk_96 (dk_at dksX9_of_0 11 rfl rfl)
theorem dX9_of_12 : decode cX9_of 12 = .ok (.iload_n 2, 1) := dk_28 (dk_at dksX9_of_0 12 rfl rfl)
theorem dX9_of_13 : decode cX9_of 13 = .ok (.iadd, 1) := dk_96 (dk_at dksX9_of_0 13 rfl rfl)
theorem dX9_of_14 : decode cX9_of 14 = .ok (.iaload, 1) := dk_46 (dk_at dksX9_of_0 14 rfl rfl)
theorem dX9_of_15 : decode cX9_of 15 = .ok (.ireturn, 1) := dk_172 (dk_at dksX9_of_0 15 rfl rfl)
abbrev cX9_ofLetter : ByteArray := prog_16_method_16_code
def yX9_ofLetter : MethodName := ⟨RX9, "ofLetter", "(II)I"⟩
def dkwX9_ofLetter_0 : List UInt8 := [42, 180, 0, 7, 17, 0, 156, 16, 6, 27, 104, 96, 28, 96, 46, 172]
abbrev dktX9_ofLetter_0 : List UInt8 := dkwX9_ofLetter_0 ++ []
theorem dksX9_ofLetter_0 : cX9_ofLetter.data.toList.drop 0 = dktX9_ofLetter_0 := by decide +kernel
theorem dX9_ofLetter_0 : decode cX9_ofLetter 0 = .ok (.aload_n 0, 1) := dk_42 (dk_at dksX9_ofLetter_0 0 rfl rfl)
theorem dX9_ofLetter_1 : decode cX9_ofLetter 1 = .ok (.getfield 7, 3) := dk_180 0 7 (dk_at dksX9_ofLetter_0 1 rfl rfl)
theorem dX9_ofLetter_4 : decode cX9_ofLetter 4 = .ok (.sipush 156, 3) := dk_17 0 156 (dk_at dksX9_ofLetter_0 4 rfl rfl)
theorem dX9_ofLetter_7 : decode cX9_ofLetter 7 = .ok (.bipush 6, 2) := dk_16 6 (dk_at dksX9_ofLetter_0 7 rfl rfl)
theorem dX9_ofLetter_9 : decode cX9_ofLetter 9 = .ok (.iload_n 1, 1) := dk_27 (dk_at dksX9_ofLetter_0 9 rfl rfl)
theorem dX9_ofLetter_10 : decode cX9_ofLetter 10 = .ok (.imul, 1) := dk_104 (dk_at dksX9_ofLetter_0 10 rfl rfl)
theorem dX9_ofLetter_11 : decode cX9_ofLetter 11 = .ok (.iadd, 1) := dk_96 (dk_at dksX9_ofLetter_0 11 rfl rfl)
theorem dX9_ofLetter_12 : decode cX9_ofLetter 12 = .ok (.iload_n 2, 1) := dk_28 (dk_at dksX9_ofLetter_0 12 rfl rfl)
theorem dX9_ofLetter_13 : decode cX9_ofLetter 13 = .ok (.iadd, 1) := dk_96 (dk_at dksX9_ofLetter_0 13 rfl rfl)
theorem dX9_ofLetter_14 : decode cX9_ofLetter 14 = .ok (.iaload, 1) := dk_46 (dk_at dksX9_ofLetter_0 14 rfl rfl)
theorem dX9_ofLetter_15 : decode cX9_ofLetter 15 = .ok (.ireturn, 1) := dk_172 (dk_at dksX9_ofLetter_0 15 rfl rfl)
abbrev cX9_parseBank : ByteArray := prog_16_method_63_code
def yX9_parseBank : MethodName := ⟨RX9, "parseBank", "()V"⟩
def dkwX9_parseBank_3 : List UInt8 := [21, 4, 182, 0, 55, 177]
abbrev dktX9_parseBank_3 : List UInt8 := dkwX9_parseBank_3 ++ []
def dkwX9_parseBank_2 : List UInt8 := [182, 0, 242, 62, 42, 3, 7, 182, 0, 242, 54, 4, 42, 182, 0, 187, 153, 0, 12, 42, 27, 28, 29]
abbrev dktX9_parseBank_2 : List UInt8 := dkwX9_parseBank_2 ++ dktX9_parseBank_3
def dkwX9_parseBank_1 : List UInt8 := [42, 3, 42, 182, 0, 84, 4, 100, 182, 0, 242, 60, 42, 3, 7, 182, 0, 242, 61, 42, 4, 16, 9]
abbrev dktX9_parseBank_1 : List UInt8 := dkwX9_parseBank_1 ++ dktX9_parseBank_2
def dkwX9_parseBank_0 : List UInt8 := [42, 42, 180, 0, 7, 6, 46, 8, 162, 0, 7, 4, 167, 0, 4, 3, 7, 182, 0, 228, 42, 182, 0, 216]
abbrev dktX9_parseBank_0 : List UInt8 := dkwX9_parseBank_0 ++ dktX9_parseBank_1
theorem dksX9_parseBank_0 : cX9_parseBank.data.toList.drop 0 = dktX9_parseBank_0 := by decide +kernel
theorem dksX9_parseBank_1 : cX9_parseBank.data.toList.drop 24 = dktX9_parseBank_1 := dk_seg dksX9_parseBank_0 24 rfl rfl
theorem dksX9_parseBank_2 : cX9_parseBank.data.toList.drop 47 = dktX9_parseBank_2 := dk_seg dksX9_parseBank_1 23 rfl rfl
theorem dksX9_parseBank_3 : cX9_parseBank.data.toList.drop 70 = dktX9_parseBank_3 := dk_seg dksX9_parseBank_2 23 rfl rfl
theorem dX9_parseBank_0 : decode cX9_parseBank 0 = .ok (.aload_n 0, 1) := dk_42 (dk_at dksX9_parseBank_0 0 rfl rfl)
theorem dX9_parseBank_1 : decode cX9_parseBank 1 = .ok (.aload_n 0, 1) := dk_42 (dk_at dksX9_parseBank_0 1 rfl rfl)
theorem dX9_parseBank_2 : decode cX9_parseBank 2 = .ok (.getfield 7, 3) := dk_180 0 7 (dk_at dksX9_parseBank_0 2 rfl rfl)
theorem dX9_parseBank_5 : decode cX9_parseBank 5 = .ok (.iconst 3, 1) := dk_6 (dk_at dksX9_parseBank_0 5 rfl rfl)
theorem dX9_parseBank_6 : decode cX9_parseBank 6 = .ok (.iaload, 1) := dk_46 (dk_at dksX9_parseBank_0 6 rfl rfl)
theorem dX9_parseBank_7 : decode cX9_parseBank 7 = .ok (.iconst 5, 1) := dk_8 (dk_at dksX9_parseBank_0 7 rfl rfl)
theorem dX9_parseBank_8 : decode cX9_parseBank 8 = .ok (.if_icmp .ge 7, 3) := dk_162 0 7 (dk_at dksX9_parseBank_0 8 rfl rfl)
theorem dX9_parseBank_11 : decode cX9_parseBank 11 = .ok (.iconst 1, 1) := dk_4 (dk_at dksX9_parseBank_0 11 rfl rfl)
theorem dX9_parseBank_12 : decode cX9_parseBank 12 = .ok (.goto 4, 3) := dk_167 0 4 (dk_at dksX9_parseBank_0 12 rfl rfl)
theorem dX9_parseBank_15 : decode cX9_parseBank 15 = .ok (.iconst 0, 1) := dk_3 (dk_at dksX9_parseBank_0 15 rfl rfl)
theorem dX9_parseBank_16 : decode cX9_parseBank 16 = .ok (.iconst 4, 1) := dk_7 (dk_at dksX9_parseBank_0 16 rfl rfl)
theorem dX9_parseBank_17 : decode cX9_parseBank 17 = .ok (.invokevirtual 228, 3) := dk_182 0 228 (dk_at dksX9_parseBank_0 17 rfl rfl)
theorem dX9_parseBank_20 : decode cX9_parseBank 20 = .ok (.aload_n 0, 1) := dk_42 (dk_at dksX9_parseBank_0 20 rfl rfl)
theorem dX9_parseBank_21 : decode cX9_parseBank 21 = .ok (.invokevirtual 216, 3) := dk_182 0 216 (dk_at dksX9_parseBank_0 21 rfl rfl)
theorem dX9_parseBank_24 : decode cX9_parseBank 24 = .ok (.aload_n 0, 1) := dk_42 (dk_at dksX9_parseBank_1 0 rfl rfl)
theorem dX9_parseBank_25 : decode cX9_parseBank 25 = .ok (.iconst 0, 1) := dk_3 (dk_at dksX9_parseBank_1 1 rfl rfl)
theorem dX9_parseBank_26 : decode cX9_parseBank 26 = .ok (.aload_n 0, 1) := dk_42 (dk_at dksX9_parseBank_1 2 rfl rfl)
theorem dX9_parseBank_27 : decode cX9_parseBank 27 = .ok (.invokevirtual 84, 3) := dk_182 0 84 (dk_at dksX9_parseBank_1 3 rfl rfl)
theorem dX9_parseBank_30 : decode cX9_parseBank 30 = .ok (.iconst 1, 1) := dk_4 (dk_at dksX9_parseBank_1 6 rfl rfl)
theorem dX9_parseBank_31 : decode cX9_parseBank 31 = .ok (.isub, 1) := dk_100 (dk_at dksX9_parseBank_1 7 rfl rfl)
theorem dX9_parseBank_32 : decode cX9_parseBank 32 = .ok (.invokevirtual 242, 3) := dk_182 0 242 (dk_at dksX9_parseBank_1 8 rfl rfl)
theorem dX9_parseBank_35 : decode cX9_parseBank 35 = .ok (.istore_n 1, 1) := dk_60 (dk_at dksX9_parseBank_1 11 rfl rfl)
theorem dX9_parseBank_36 : decode cX9_parseBank 36 = .ok (.aload_n 0, 1) := dk_42 (dk_at dksX9_parseBank_1 12 rfl rfl)
theorem dX9_parseBank_37 : decode cX9_parseBank 37 = .ok (.iconst 0, 1) := dk_3 (dk_at dksX9_parseBank_1 13 rfl rfl)
theorem dX9_parseBank_38 : decode cX9_parseBank 38 = .ok (.iconst 4, 1) := dk_7 (dk_at dksX9_parseBank_1 14 rfl rfl)
theorem dX9_parseBank_39 : decode cX9_parseBank 39 = .ok (.invokevirtual 242, 3) := dk_182 0 242 (dk_at dksX9_parseBank_1 15 rfl rfl)
theorem dX9_parseBank_42 : decode cX9_parseBank 42 = .ok (.istore_n 2, 1) := dk_61 (dk_at dksX9_parseBank_1 18 rfl rfl)
theorem dX9_parseBank_43 : decode cX9_parseBank 43 = .ok (.aload_n 0, 1) := dk_42 (dk_at dksX9_parseBank_1 19 rfl rfl)
theorem dX9_parseBank_44 : decode cX9_parseBank 44 = .ok (.iconst 1, 1) := dk_4 (dk_at dksX9_parseBank_1 20 rfl rfl)
theorem dX9_parseBank_45 : decode cX9_parseBank 45 = .ok (.bipush 9, 2) := dk_16 9 (dk_at dksX9_parseBank_1 21 rfl rfl)
theorem dX9_parseBank_47 : decode cX9_parseBank 47 = .ok (.invokevirtual 242, 3) := dk_182 0 242 (dk_at dksX9_parseBank_2 0 rfl rfl)
theorem dX9_parseBank_50 : decode cX9_parseBank 50 = .ok (.istore_n 3, 1) := dk_62 (dk_at dksX9_parseBank_2 3 rfl rfl)
theorem dX9_parseBank_51 : decode cX9_parseBank 51 = .ok (.aload_n 0, 1) := dk_42 (dk_at dksX9_parseBank_2 4 rfl rfl)
theorem dX9_parseBank_52 : decode cX9_parseBank 52 = .ok (.iconst 0, 1) := dk_3 (dk_at dksX9_parseBank_2 5 rfl rfl)
theorem dX9_parseBank_53 : decode cX9_parseBank 53 = .ok (.iconst 4, 1) := dk_7 (dk_at dksX9_parseBank_2 6 rfl rfl)
theorem dX9_parseBank_54 : decode cX9_parseBank 54 = .ok (.invokevirtual 242, 3) := dk_182 0 242 (dk_at dksX9_parseBank_2 7 rfl rfl)
theorem dX9_parseBank_57 : decode cX9_parseBank 57 = .ok (.istore 4, 2) := dk_54 4 (dk_at dksX9_parseBank_2 10 rfl rfl)
theorem dX9_parseBank_59 : decode cX9_parseBank 59 = .ok (.aload_n 0, 1) := dk_42 (dk_at dksX9_parseBank_2 12 rfl rfl)
theorem dX9_parseBank_60 : decode cX9_parseBank 60 = .ok (.invokevirtual 187, 3) := dk_182 0 187 (dk_at dksX9_parseBank_2 13 rfl rfl)
theorem dX9_parseBank_63 : decode cX9_parseBank 63 = .ok (.ifCond .eq 12, 3) := dk_153 0 12 (dk_at dksX9_parseBank_2 16 rfl rfl)
theorem dX9_parseBank_66 : decode cX9_parseBank 66 = .ok (.aload_n 0, 1) := dk_42 (dk_at dksX9_parseBank_2 19 rfl rfl)
theorem dX9_parseBank_67 : decode cX9_parseBank 67 = .ok (.iload_n 1, 1) := dk_27 (dk_at dksX9_parseBank_2 20 rfl rfl)
theorem dX9_parseBank_68 : decode cX9_parseBank 68 = .ok (.iload_n 2, 1) := dk_28 (dk_at dksX9_parseBank_2 21 rfl rfl)
theorem dX9_parseBank_69 : decode cX9_parseBank 69 = .ok (.iload_n 3, 1) := dk_29 (dk_at dksX9_parseBank_2 22 rfl rfl)
theorem dX9_parseBank_70 : decode cX9_parseBank 70 = .ok (.iload 4, 2) := dk_21 4 (dk_at dksX9_parseBank_3 0 rfl rfl)
theorem dX9_parseBank_72 : decode cX9_parseBank 72 = .ok (.invokevirtual 55, 3) := dk_182 0 55 (dk_at dksX9_parseBank_3 2 rfl rfl)
theorem dX9_parseBank_75 : decode cX9_parseBank 75 = .ok (.return_, 1) := dk_177 (dk_at dksX9_parseBank_3 5 rfl rfl)
abbrev cX9_parseWatcher : ByteArray := prog_16_method_64_code
def yX9_parseWatcher : MethodName := ⟨RX9, "parseWatcher", "()V"⟩
def dkwX9_parseWatcher_4 : List UInt8 := [27, 28, 29, 21, 4, 182, 0, 59, 177]
abbrev dktX9_parseWatcher_4 : List UInt8 := dkwX9_parseWatcher_4 ++ []
def dkwX9_parseWatcher_3 : List UInt8 := [167, 0, 4, 3, 5, 182, 0, 228, 42, 3, 6, 182, 0, 242, 54, 4, 42, 182, 0, 187, 153, 0, 12, 42]
abbrev dktX9_parseWatcher_3 : List UInt8 := dkwX9_parseWatcher_3 ++ dktX9_parseWatcher_4
def dkwX9_parseWatcher_2 : List UInt8 := [182, 0, 187, 153, 0, 19, 42, 180, 0, 200, 5, 160, 0, 11, 42, 180, 0, 209, 5, 159, 0, 7, 4]
abbrev dktX9_parseWatcher_2 : List UInt8 := dkwX9_parseWatcher_2 ++ dktX9_parseWatcher_3
def dkwX9_parseWatcher_1 : List UInt8 := [42, 3, 2, 182, 0, 238, 60, 42, 3, 6, 182, 0, 242, 61, 42, 4, 16, 9, 182, 0, 242, 62, 42, 42]
abbrev dktX9_parseWatcher_1 : List UInt8 := dkwX9_parseWatcher_1 ++ dktX9_parseWatcher_2
def dkwX9_parseWatcher_0 : List UInt8 := [42, 42, 180, 0, 7, 7, 46, 7, 162, 0, 7, 4, 167, 0, 4, 3, 7, 182, 0, 228, 42, 182, 0, 216]
abbrev dktX9_parseWatcher_0 : List UInt8 := dkwX9_parseWatcher_0 ++ dktX9_parseWatcher_1
theorem dksX9_parseWatcher_0 : cX9_parseWatcher.data.toList.drop 0 = dktX9_parseWatcher_0 := by decide +kernel
theorem dksX9_parseWatcher_1 : cX9_parseWatcher.data.toList.drop 24 = dktX9_parseWatcher_1 := dk_seg dksX9_parseWatcher_0 24 rfl rfl
theorem dksX9_parseWatcher_2 : cX9_parseWatcher.data.toList.drop 48 = dktX9_parseWatcher_2 := dk_seg dksX9_parseWatcher_1 24 rfl rfl
theorem dksX9_parseWatcher_3 : cX9_parseWatcher.data.toList.drop 71 = dktX9_parseWatcher_3 := dk_seg dksX9_parseWatcher_2 23 rfl rfl
theorem dksX9_parseWatcher_4 : cX9_parseWatcher.data.toList.drop 95 = dktX9_parseWatcher_4 := dk_seg dksX9_parseWatcher_3 24 rfl rfl
theorem dX9_parseWatcher_0 : decode cX9_parseWatcher 0 = .ok (.aload_n 0, 1) := dk_42 (dk_at dksX9_parseWatcher_0 0 rfl rfl)
theorem dX9_parseWatcher_1 : decode cX9_parseWatcher 1 = .ok (.aload_n 0, 1) := dk_42 (dk_at dksX9_parseWatcher_0 1 rfl rfl)
theorem dX9_parseWatcher_2 : decode cX9_parseWatcher 2 = .ok (.getfield 7, 3) := dk_180 0 7 (dk_at dksX9_parseWatcher_0 2 rfl rfl)
theorem dX9_parseWatcher_5 : decode cX9_parseWatcher 5 = .ok (.iconst 4, 1) := dk_7 (dk_at dksX9_parseWatcher_0 5 rfl rfl)
theorem dX9_parseWatcher_6 : decode cX9_parseWatcher 6 = .ok (.iaload, 1) := dk_46 (dk_at dksX9_parseWatcher_0 6 rfl rfl)
theorem dX9_parseWatcher_7 : decode cX9_parseWatcher 7 = .ok (.iconst 4, 1) := dk_7 (dk_at dksX9_parseWatcher_0 7 rfl rfl)
theorem dX9_parseWatcher_8 : decode cX9_parseWatcher 8 = .ok (.if_icmp .ge 7, 3) := dk_162 0 7 (dk_at dksX9_parseWatcher_0 8 rfl rfl)
theorem dX9_parseWatcher_11 : decode cX9_parseWatcher 11 = .ok (.iconst 1, 1) := dk_4 (dk_at dksX9_parseWatcher_0 11 rfl rfl)
theorem dX9_parseWatcher_12 : decode cX9_parseWatcher 12 = .ok (.goto 4, 3) := dk_167 0 4 (dk_at dksX9_parseWatcher_0 12 rfl rfl)
theorem dX9_parseWatcher_15 : decode cX9_parseWatcher 15 = .ok (.iconst 0, 1) := dk_3 (dk_at dksX9_parseWatcher_0 15 rfl rfl)
theorem dX9_parseWatcher_16 : decode cX9_parseWatcher 16 = .ok (.iconst 4, 1) := dk_7 (dk_at dksX9_parseWatcher_0 16 rfl rfl)
theorem dX9_parseWatcher_17 : decode cX9_parseWatcher 17 = .ok (.invokevirtual 228, 3) := dk_182 0 228 (dk_at dksX9_parseWatcher_0 17 rfl rfl)
theorem dX9_parseWatcher_20 : decode cX9_parseWatcher 20 = .ok (.aload_n 0, 1) := dk_42 (dk_at dksX9_parseWatcher_0 20 rfl rfl)
theorem dX9_parseWatcher_21 : decode cX9_parseWatcher 21 = .ok (.invokevirtual 216, 3) := dk_182 0 216 (dk_at dksX9_parseWatcher_0 21 rfl rfl)
theorem dX9_parseWatcher_24 : decode cX9_parseWatcher 24 = .ok (.aload_n 0, 1) := dk_42 (dk_at dksX9_parseWatcher_1 0 rfl rfl)
theorem dX9_parseWatcher_25 : decode cX9_parseWatcher 25 = .ok (.iconst 0, 1) := dk_3 (dk_at dksX9_parseWatcher_1 1 rfl rfl)
theorem dX9_parseWatcher_26 : decode cX9_parseWatcher 26 = .ok (.iconst (-1), 1) := dk_2 (dk_at dksX9_parseWatcher_1 2 rfl rfl)
theorem dX9_parseWatcher_27 : decode cX9_parseWatcher 27 = .ok (.invokevirtual 238, 3) := dk_182 0 238 (dk_at dksX9_parseWatcher_1 3 rfl rfl)
theorem dX9_parseWatcher_30 : decode cX9_parseWatcher 30 = .ok (.istore_n 1, 1) := dk_60 (dk_at dksX9_parseWatcher_1 6 rfl rfl)
theorem dX9_parseWatcher_31 : decode cX9_parseWatcher 31 = .ok (.aload_n 0, 1) := dk_42 (dk_at dksX9_parseWatcher_1 7 rfl rfl)
theorem dX9_parseWatcher_32 : decode cX9_parseWatcher 32 = .ok (.iconst 0, 1) := dk_3 (dk_at dksX9_parseWatcher_1 8 rfl rfl)
theorem dX9_parseWatcher_33 : decode cX9_parseWatcher 33 = .ok (.iconst 3, 1) := dk_6 (dk_at dksX9_parseWatcher_1 9 rfl rfl)
theorem dX9_parseWatcher_34 : decode cX9_parseWatcher 34 = .ok (.invokevirtual 242, 3) := dk_182 0 242 (dk_at dksX9_parseWatcher_1 10 rfl rfl)
theorem dX9_parseWatcher_37 : decode cX9_parseWatcher 37 = .ok (.istore_n 2, 1) := dk_61 (dk_at dksX9_parseWatcher_1 13 rfl rfl)
theorem dX9_parseWatcher_38 : decode cX9_parseWatcher 38 = .ok (.aload_n 0, 1) := dk_42 (dk_at dksX9_parseWatcher_1 14 rfl rfl)
theorem dX9_parseWatcher_39 : decode cX9_parseWatcher 39 = .ok (.iconst 1, 1) := dk_4 (dk_at dksX9_parseWatcher_1 15 rfl rfl)
theorem dX9_parseWatcher_40 : decode cX9_parseWatcher 40 = .ok (.bipush 9, 2) := dk_16 9 (dk_at dksX9_parseWatcher_1 16 rfl rfl)
theorem dX9_parseWatcher_42 : decode cX9_parseWatcher 42 = .ok (.invokevirtual 242, 3) := dk_182 0 242 (dk_at dksX9_parseWatcher_1 18 rfl rfl)
theorem dX9_parseWatcher_45 : decode cX9_parseWatcher 45 = .ok (.istore_n 3, 1) := dk_62 (dk_at dksX9_parseWatcher_1 21 rfl rfl)
theorem dX9_parseWatcher_46 : decode cX9_parseWatcher 46 = .ok (.aload_n 0, 1) := dk_42 (dk_at dksX9_parseWatcher_1 22 rfl rfl)
theorem dX9_parseWatcher_47 : decode cX9_parseWatcher 47 = .ok (.aload_n 0, 1) := dk_42 (dk_at dksX9_parseWatcher_1 23 rfl rfl)
theorem dX9_parseWatcher_48 : decode cX9_parseWatcher 48 = .ok (.invokevirtual 187, 3) := dk_182 0 187 (dk_at dksX9_parseWatcher_2 0 rfl rfl)
theorem dX9_parseWatcher_51 : decode cX9_parseWatcher 51 = .ok (.ifCond .eq 19, 3) := dk_153 0 19 (dk_at dksX9_parseWatcher_2 3 rfl rfl)
theorem dX9_parseWatcher_54 : decode cX9_parseWatcher 54 = .ok (.aload_n 0, 1) := dk_42 (dk_at dksX9_parseWatcher_2 6 rfl rfl)
theorem dX9_parseWatcher_55 : decode cX9_parseWatcher 55 = .ok (.getfield 200, 3) := dk_180 0 200 (dk_at dksX9_parseWatcher_2 7 rfl rfl)
theorem dX9_parseWatcher_58 : decode cX9_parseWatcher 58 = .ok (.iconst 2, 1) := dk_5 (dk_at dksX9_parseWatcher_2 10 rfl rfl)
theorem dX9_parseWatcher_59 : decode cX9_parseWatcher 59 = .ok (.if_icmp .ne 11, 3) := dk_160 0 11 (dk_at dksX9_parseWatcher_2 11 rfl rfl)
theorem dX9_parseWatcher_62 : decode cX9_parseWatcher 62 = .ok (.aload_n 0, 1) := dk_42 (dk_at dksX9_parseWatcher_2 14 rfl rfl)
theorem dX9_parseWatcher_63 : decode cX9_parseWatcher 63 = .ok (.getfield 209, 3) := dk_180 0 209 (dk_at dksX9_parseWatcher_2 15 rfl rfl)
theorem dX9_parseWatcher_66 : decode cX9_parseWatcher 66 = .ok (.iconst 2, 1) := dk_5 (dk_at dksX9_parseWatcher_2 18 rfl rfl)
theorem dX9_parseWatcher_67 : decode cX9_parseWatcher 67 = .ok (.if_icmp .eq 7, 3) := dk_159 0 7 (dk_at dksX9_parseWatcher_2 19 rfl rfl)
theorem dX9_parseWatcher_70 : decode cX9_parseWatcher 70 = .ok (.iconst 1, 1) := dk_4 (dk_at dksX9_parseWatcher_2 22 rfl rfl)
theorem dX9_parseWatcher_71 : decode cX9_parseWatcher 71 = .ok (.goto 4, 3) := dk_167 0 4 (dk_at dksX9_parseWatcher_3 0 rfl rfl)
theorem dX9_parseWatcher_74 : decode cX9_parseWatcher 74 = .ok (.iconst 0, 1) := dk_3 (dk_at dksX9_parseWatcher_3 3 rfl rfl)
theorem dX9_parseWatcher_75 : decode cX9_parseWatcher 75 = .ok (.iconst 2, 1) := dk_5 (dk_at dksX9_parseWatcher_3 4 rfl rfl)
theorem dX9_parseWatcher_76 : decode cX9_parseWatcher 76 = .ok (.invokevirtual 228, 3) := dk_182 0 228 (dk_at dksX9_parseWatcher_3 5 rfl rfl)
theorem dX9_parseWatcher_79 : decode cX9_parseWatcher 79 = .ok (.aload_n 0, 1) := dk_42 (dk_at dksX9_parseWatcher_3 8 rfl rfl)
theorem dX9_parseWatcher_80 : decode cX9_parseWatcher 80 = .ok (.iconst 0, 1) := dk_3 (dk_at dksX9_parseWatcher_3 9 rfl rfl)
theorem dX9_parseWatcher_81 : decode cX9_parseWatcher 81 = .ok (.iconst 3, 1) := dk_6 (dk_at dksX9_parseWatcher_3 10 rfl rfl)
theorem dX9_parseWatcher_82 : decode cX9_parseWatcher 82 = .ok (.invokevirtual 242, 3) := dk_182 0 242 (dk_at dksX9_parseWatcher_3 11 rfl rfl)
theorem dX9_parseWatcher_85 : decode cX9_parseWatcher 85 = .ok (.istore 4, 2) := dk_54 4 (dk_at dksX9_parseWatcher_3 14 rfl rfl)
theorem dX9_parseWatcher_87 : decode cX9_parseWatcher 87 = .ok (.aload_n 0, 1) := dk_42 (dk_at dksX9_parseWatcher_3 16 rfl rfl)
theorem dX9_parseWatcher_88 : decode cX9_parseWatcher 88 = .ok (.invokevirtual 187, 3) := dk_182 0 187 (dk_at dksX9_parseWatcher_3 17 rfl rfl)
theorem dX9_parseWatcher_91 : decode cX9_parseWatcher 91 = .ok (.ifCond .eq 12, 3) := dk_153 0 12 (dk_at dksX9_parseWatcher_3 20 rfl rfl)
theorem dX9_parseWatcher_94 : decode cX9_parseWatcher 94 = .ok (.aload_n 0, 1) := dk_42 (dk_at dksX9_parseWatcher_3 23 rfl rfl)
theorem dX9_parseWatcher_95 : decode cX9_parseWatcher 95 = .ok (.iload_n 1, 1) := dk_27 (dk_at dksX9_parseWatcher_4 0 rfl rfl)
theorem dX9_parseWatcher_96 : decode cX9_parseWatcher 96 = .ok (.iload_n 2, 1) := dk_28 (dk_at dksX9_parseWatcher_4 1 rfl rfl)
theorem dX9_parseWatcher_97 : decode cX9_parseWatcher 97 = .ok (.iload_n 3, 1) := dk_29 (dk_at dksX9_parseWatcher_4 2 rfl rfl)
theorem dX9_parseWatcher_98 : decode cX9_parseWatcher 98 = .ok (.iload 4, 2) := dk_21 4 (dk_at dksX9_parseWatcher_4 3 rfl rfl)
theorem dX9_parseWatcher_100 : decode cX9_parseWatcher 100 = .ok (.invokevirtual 59, 3) := dk_182 0 59 (dk_at dksX9_parseWatcher_4 5 rfl rfl)
theorem dX9_parseWatcher_103 : decode cX9_parseWatcher 103 = .ok (.return_, 1) := dk_177 (dk_at dksX9_parseWatcher_4 8 rfl rfl)
abbrev cX9_parseCourier : ByteArray := prog_16_method_65_code
def yX9_parseCourier : MethodName := ⟨RX9, "parseCourier", "()V"⟩
def dkwX9_parseCourier_1 : List UInt8 := [42, 3, 2, 182, 0, 238, 60, 42, 182, 0, 187, 153, 0, 8, 42, 27, 182, 0, 62, 177]
abbrev dktX9_parseCourier_1 : List UInt8 := dkwX9_parseCourier_1 ++ []
def dkwX9_parseCourier_0 : List UInt8 := [42, 42, 180, 0, 7, 8, 46, 7, 162, 0, 7, 4, 167, 0, 4, 3, 7, 182, 0, 228, 42, 182, 0, 216]
abbrev dktX9_parseCourier_0 : List UInt8 := dkwX9_parseCourier_0 ++ dktX9_parseCourier_1
theorem dksX9_parseCourier_0 : cX9_parseCourier.data.toList.drop 0 = dktX9_parseCourier_0 := by decide +kernel
theorem dksX9_parseCourier_1 : cX9_parseCourier.data.toList.drop 24 = dktX9_parseCourier_1 := dk_seg dksX9_parseCourier_0 24 rfl rfl
theorem dX9_parseCourier_0 : decode cX9_parseCourier 0 = .ok (.aload_n 0, 1) := dk_42 (dk_at dksX9_parseCourier_0 0 rfl rfl)
theorem dX9_parseCourier_1 : decode cX9_parseCourier 1 = .ok (.aload_n 0, 1) := dk_42 (dk_at dksX9_parseCourier_0 1 rfl rfl)
theorem dX9_parseCourier_2 : decode cX9_parseCourier 2 = .ok (.getfield 7, 3) := dk_180 0 7 (dk_at dksX9_parseCourier_0 2 rfl rfl)
theorem dX9_parseCourier_5 : decode cX9_parseCourier 5 = .ok (.iconst 5, 1) := dk_8 (dk_at dksX9_parseCourier_0 5 rfl rfl)
theorem dX9_parseCourier_6 : decode cX9_parseCourier 6 = .ok (.iaload, 1) := dk_46 (dk_at dksX9_parseCourier_0 6 rfl rfl)
theorem dX9_parseCourier_7 : decode cX9_parseCourier 7 = .ok (.iconst 4, 1) := dk_7 (dk_at dksX9_parseCourier_0 7 rfl rfl)
theorem dX9_parseCourier_8 : decode cX9_parseCourier 8 = .ok (.if_icmp .ge 7, 3) := dk_162 0 7 (dk_at dksX9_parseCourier_0 8 rfl rfl)
theorem dX9_parseCourier_11 : decode cX9_parseCourier 11 = .ok (.iconst 1, 1) := dk_4 (dk_at dksX9_parseCourier_0 11 rfl rfl)
theorem dX9_parseCourier_12 : decode cX9_parseCourier 12 = .ok (.goto 4, 3) := dk_167 0 4 (dk_at dksX9_parseCourier_0 12 rfl rfl)
theorem dX9_parseCourier_15 : decode cX9_parseCourier 15 = .ok (.iconst 0, 1) := dk_3 (dk_at dksX9_parseCourier_0 15 rfl rfl)
theorem dX9_parseCourier_16 : decode cX9_parseCourier 16 = .ok (.iconst 4, 1) := dk_7 (dk_at dksX9_parseCourier_0 16 rfl rfl)
theorem dX9_parseCourier_17 : decode cX9_parseCourier 17 = .ok (.invokevirtual 228, 3) := dk_182 0 228 (dk_at dksX9_parseCourier_0 17 rfl rfl)
theorem dX9_parseCourier_20 : decode cX9_parseCourier 20 = .ok (.aload_n 0, 1) := dk_42 (dk_at dksX9_parseCourier_0 20 rfl rfl)
theorem dX9_parseCourier_21 : decode cX9_parseCourier 21 = .ok (.invokevirtual 216, 3) := dk_182 0 216 (dk_at dksX9_parseCourier_0 21 rfl rfl)
theorem dX9_parseCourier_24 : decode cX9_parseCourier 24 = .ok (.aload_n 0, 1) := dk_42 (dk_at dksX9_parseCourier_1 0 rfl rfl)
theorem dX9_parseCourier_25 : decode cX9_parseCourier 25 = .ok (.iconst 0, 1) := dk_3 (dk_at dksX9_parseCourier_1 1 rfl rfl)
theorem dX9_parseCourier_26 : decode cX9_parseCourier 26 = .ok (.iconst (-1), 1) := dk_2 (dk_at dksX9_parseCourier_1 2 rfl rfl)
theorem dX9_parseCourier_27 : decode cX9_parseCourier 27 = .ok (.invokevirtual 238, 3) := dk_182 0 238 (dk_at dksX9_parseCourier_1 3 rfl rfl)
theorem dX9_parseCourier_30 : decode cX9_parseCourier 30 = .ok (.istore_n 1, 1) := dk_60 (dk_at dksX9_parseCourier_1 6 rfl rfl)
theorem dX9_parseCourier_31 : decode cX9_parseCourier 31 = .ok (.aload_n 0, 1) := dk_42 (dk_at dksX9_parseCourier_1 7 rfl rfl)
theorem dX9_parseCourier_32 : decode cX9_parseCourier 32 = .ok (.invokevirtual 187, 3) := dk_182 0 187 (dk_at dksX9_parseCourier_1 8 rfl rfl)
theorem dX9_parseCourier_35 : decode cX9_parseCourier 35 = .ok (.ifCond .eq 8, 3) := dk_153 0 8 (dk_at dksX9_parseCourier_1 11 rfl rfl)
theorem dX9_parseCourier_38 : decode cX9_parseCourier 38 = .ok (.aload_n 0, 1) := dk_42 (dk_at dksX9_parseCourier_1 14 rfl rfl)
theorem dX9_parseCourier_39 : decode cX9_parseCourier 39 = .ok (.iload_n 1, 1) := dk_27 (dk_at dksX9_parseCourier_1 15 rfl rfl)
theorem dX9_parseCourier_40 : decode cX9_parseCourier 40 = .ok (.invokevirtual 62, 3) := dk_182 0 62 (dk_at dksX9_parseCourier_1 16 rfl rfl)
theorem dX9_parseCourier_43 : decode cX9_parseCourier 43 = .ok (.return_, 1) := dk_177 (dk_at dksX9_parseCourier_1 19 rfl rfl)
abbrev cX9_parseLetter : ByteArray := prog_16_method_66_code
def yX9_parseLetter : MethodName := ⟨RX9, "parseLetter", "()V"⟩
def dkwX9_parseLetter_2 : List UInt8 := [182, 0, 238, 61, 42, 182, 0, 187, 153, 0, 9, 42, 27, 28, 182, 0, 66, 177]
abbrev dktX9_parseLetter_2 : List UInt8 := dkwX9_parseLetter_2 ++ []
def dkwX9_parseLetter_1 : List UInt8 := [4, 167, 0, 4, 3, 7, 182, 0, 228, 42, 182, 0, 216, 42, 3, 2, 182, 0, 238, 60, 42, 3, 27]
abbrev dktX9_parseLetter_1 : List UInt8 := dkwX9_parseLetter_1 ++ dktX9_parseLetter_2
def dkwX9_parseLetter_0 : List UInt8 := [42, 42, 18, 245, 182, 0, 247, 4, 182, 0, 228, 42, 42, 180, 0, 7, 16, 6, 46, 16, 10, 162, 0, 7]
abbrev dktX9_parseLetter_0 : List UInt8 := dkwX9_parseLetter_0 ++ dktX9_parseLetter_1
theorem dksX9_parseLetter_0 : cX9_parseLetter.data.toList.drop 0 = dktX9_parseLetter_0 := by decide +kernel
theorem dksX9_parseLetter_1 : cX9_parseLetter.data.toList.drop 24 = dktX9_parseLetter_1 := dk_seg dksX9_parseLetter_0 24 rfl rfl
theorem dksX9_parseLetter_2 : cX9_parseLetter.data.toList.drop 47 = dktX9_parseLetter_2 := dk_seg dksX9_parseLetter_1 23 rfl rfl
theorem dX9_parseLetter_0 : decode cX9_parseLetter 0 = .ok (.aload_n 0, 1) := dk_42 (dk_at dksX9_parseLetter_0 0 rfl rfl)
theorem dX9_parseLetter_1 : decode cX9_parseLetter 1 = .ok (.aload_n 0, 1) := dk_42 (dk_at dksX9_parseLetter_0 1 rfl rfl)
theorem dX9_parseLetter_2 : decode cX9_parseLetter 2 = .ok (.ldc 245, 2) := dk_18 245 (dk_at dksX9_parseLetter_0 2 rfl rfl)
theorem dX9_parseLetter_4 : decode cX9_parseLetter 4 = .ok (.invokevirtual 247, 3) := dk_182 0 247 (dk_at dksX9_parseLetter_0 4 rfl rfl)
theorem dX9_parseLetter_7 : decode cX9_parseLetter 7 = .ok (.iconst 1, 1) := dk_4 (dk_at dksX9_parseLetter_0 7 rfl rfl)
theorem dX9_parseLetter_8 : decode cX9_parseLetter 8 = .ok (.invokevirtual 228, 3) := dk_182 0 228 (dk_at dksX9_parseLetter_0 8 rfl rfl)
theorem dX9_parseLetter_11 : decode cX9_parseLetter 11 = .ok (.aload_n 0, 1) := dk_42 (dk_at dksX9_parseLetter_0 11 rfl rfl)
theorem dX9_parseLetter_12 : decode cX9_parseLetter 12 = .ok (.aload_n 0, 1) := dk_42 (dk_at dksX9_parseLetter_0 12 rfl rfl)
theorem dX9_parseLetter_13 : decode cX9_parseLetter 13 = .ok (.getfield 7, 3) := dk_180 0 7 (dk_at dksX9_parseLetter_0 13 rfl rfl)
theorem dX9_parseLetter_16 : decode cX9_parseLetter 16 = .ok (.bipush 6, 2) := dk_16 6 (dk_at dksX9_parseLetter_0 16 rfl rfl)
theorem dX9_parseLetter_18 : decode cX9_parseLetter 18 = .ok (.iaload, 1) := dk_46 (dk_at dksX9_parseLetter_0 18 rfl rfl)
theorem dX9_parseLetter_19 : decode cX9_parseLetter 19 = .ok (.bipush 10, 2) := dk_16 10 (dk_at dksX9_parseLetter_0 19 rfl rfl)
theorem dX9_parseLetter_21 : decode cX9_parseLetter 21 = .ok (.if_icmp .ge 7, 3) := dk_162 0 7 (dk_at dksX9_parseLetter_0 21 rfl rfl)
theorem dX9_parseLetter_24 : decode cX9_parseLetter 24 = .ok (.iconst 1, 1) := dk_4 (dk_at dksX9_parseLetter_1 0 rfl rfl)
theorem dX9_parseLetter_25 : decode cX9_parseLetter 25 = .ok (.goto 4, 3) := dk_167 0 4 (dk_at dksX9_parseLetter_1 1 rfl rfl)
theorem dX9_parseLetter_28 : decode cX9_parseLetter 28 = .ok (.iconst 0, 1) := dk_3 (dk_at dksX9_parseLetter_1 4 rfl rfl)
theorem dX9_parseLetter_29 : decode cX9_parseLetter 29 = .ok (.iconst 4, 1) := dk_7 (dk_at dksX9_parseLetter_1 5 rfl rfl)
theorem dX9_parseLetter_30 : decode cX9_parseLetter 30 = .ok (.invokevirtual 228, 3) := dk_182 0 228 (dk_at dksX9_parseLetter_1 6 rfl rfl)
theorem dX9_parseLetter_33 : decode cX9_parseLetter 33 = .ok (.aload_n 0, 1) := dk_42 (dk_at dksX9_parseLetter_1 9 rfl rfl)
theorem dX9_parseLetter_34 : decode cX9_parseLetter 34 = .ok (.invokevirtual 216, 3) := dk_182 0 216 (dk_at dksX9_parseLetter_1 10 rfl rfl)
theorem dX9_parseLetter_37 : decode cX9_parseLetter 37 = .ok (.aload_n 0, 1) := dk_42 (dk_at dksX9_parseLetter_1 13 rfl rfl)
theorem dX9_parseLetter_38 : decode cX9_parseLetter 38 = .ok (.iconst 0, 1) := dk_3 (dk_at dksX9_parseLetter_1 14 rfl rfl)
theorem dX9_parseLetter_39 : decode cX9_parseLetter 39 = .ok (.iconst (-1), 1) := dk_2 (dk_at dksX9_parseLetter_1 15 rfl rfl)
theorem dX9_parseLetter_40 : decode cX9_parseLetter 40 = .ok (.invokevirtual 238, 3) := dk_182 0 238 (dk_at dksX9_parseLetter_1 16 rfl rfl)
theorem dX9_parseLetter_43 : decode cX9_parseLetter 43 = .ok (.istore_n 1, 1) := dk_60 (dk_at dksX9_parseLetter_1 19 rfl rfl)
theorem dX9_parseLetter_44 : decode cX9_parseLetter 44 = .ok (.aload_n 0, 1) := dk_42 (dk_at dksX9_parseLetter_1 20 rfl rfl)
theorem dX9_parseLetter_45 : decode cX9_parseLetter 45 = .ok (.iconst 0, 1) := dk_3 (dk_at dksX9_parseLetter_1 21 rfl rfl)
theorem dX9_parseLetter_46 : decode cX9_parseLetter 46 = .ok (.iload_n 1, 1) := dk_27 (dk_at dksX9_parseLetter_1 22 rfl rfl)
theorem dX9_parseLetter_47 : decode cX9_parseLetter 47 = .ok (.invokevirtual 238, 3) := dk_182 0 238 (dk_at dksX9_parseLetter_2 0 rfl rfl)
theorem dX9_parseLetter_50 : decode cX9_parseLetter 50 = .ok (.istore_n 2, 1) := dk_61 (dk_at dksX9_parseLetter_2 3 rfl rfl)
theorem dX9_parseLetter_51 : decode cX9_parseLetter 51 = .ok (.aload_n 0, 1) := dk_42 (dk_at dksX9_parseLetter_2 4 rfl rfl)
theorem dX9_parseLetter_52 : decode cX9_parseLetter 52 = .ok (.invokevirtual 187, 3) := dk_182 0 187 (dk_at dksX9_parseLetter_2 5 rfl rfl)
theorem dX9_parseLetter_55 : decode cX9_parseLetter 55 = .ok (.ifCond .eq 9, 3) := dk_153 0 9 (dk_at dksX9_parseLetter_2 8 rfl rfl)
theorem dX9_parseLetter_58 : decode cX9_parseLetter 58 = .ok (.aload_n 0, 1) := dk_42 (dk_at dksX9_parseLetter_2 11 rfl rfl)
theorem dX9_parseLetter_59 : decode cX9_parseLetter 59 = .ok (.iload_n 1, 1) := dk_27 (dk_at dksX9_parseLetter_2 12 rfl rfl)
theorem dX9_parseLetter_60 : decode cX9_parseLetter 60 = .ok (.iload_n 2, 1) := dk_28 (dk_at dksX9_parseLetter_2 13 rfl rfl)
theorem dX9_parseLetter_61 : decode cX9_parseLetter 61 = .ok (.invokevirtual 66, 3) := dk_182 0 66 (dk_at dksX9_parseLetter_2 14 rfl rfl)
theorem dX9_parseLetter_64 : decode cX9_parseLetter 64 = .ok (.return_, 1) := dk_177 (dk_at dksX9_parseLetter_2 17 rfl rfl)
abbrev cX9_play : ByteArray := prog_16_method_75_code
def yX9_play : MethodName := ⟨RX9, "play", "()I"⟩
def dkwX9_play_2 : List UInt8 := [180, 0, 213, 162, 0, 19, 42, 7, 27, 104, 182, 1, 82, 155, 0, 9, 132, 1, 1, 167, 255, 235, 27, 172]
abbrev dktX9_play_2 : List UInt8 := dkwX9_play_2 ++ []
def dkwX9_play_1 : List UInt8 := [182, 1, 79, 167, 255, 238, 42, 3, 181, 0, 178, 42, 182, 0, 187, 154, 0, 5, 2, 172, 3, 60, 27, 42]
abbrev dktX9_play_1 : List UInt8 := dkwX9_play_1 ++ dktX9_play_2
def dkwX9_play_0 : List UInt8 := [42, 3, 181, 0, 77, 42, 182, 1, 30, 42, 182, 0, 187, 153, 0, 17, 42, 180, 0, 200, 153, 0, 10, 42]
abbrev dktX9_play_0 : List UInt8 := dkwX9_play_0 ++ dktX9_play_1
theorem dksX9_play_0 : cX9_play.data.toList.drop 0 = dktX9_play_0 := by decide +kernel
theorem dksX9_play_1 : cX9_play.data.toList.drop 24 = dktX9_play_1 := dk_seg dksX9_play_0 24 rfl rfl
theorem dksX9_play_2 : cX9_play.data.toList.drop 48 = dktX9_play_2 := dk_seg dksX9_play_1 24 rfl rfl
theorem dX9_play_0 : decode cX9_play 0 = .ok (.aload_n 0, 1) := dk_42 (dk_at dksX9_play_0 0 rfl rfl)
theorem dX9_play_1 : decode cX9_play 1 = .ok (.iconst 0, 1) := dk_3 (dk_at dksX9_play_0 1 rfl rfl)
theorem dX9_play_2 : decode cX9_play 2 = .ok (.putfield 77, 3) := dk_181 0 77 (dk_at dksX9_play_0 2 rfl rfl)
theorem dX9_play_5 : decode cX9_play 5 = .ok (.aload_n 0, 1) := dk_42 (dk_at dksX9_play_0 5 rfl rfl)
theorem dX9_play_6 : decode cX9_play 6 = .ok (.invokevirtual 286, 3) := dk_182 1 30 (dk_at dksX9_play_0 6 rfl rfl)
theorem dX9_play_9 : decode cX9_play 9 = .ok (.aload_n 0, 1) := dk_42 (dk_at dksX9_play_0 9 rfl rfl)
theorem dX9_play_10 : decode cX9_play 10 = .ok (.invokevirtual 187, 3) := dk_182 0 187 (dk_at dksX9_play_0 10 rfl rfl)
theorem dX9_play_13 : decode cX9_play 13 = .ok (.ifCond .eq 17, 3) := dk_153 0 17 (dk_at dksX9_play_0 13 rfl rfl)
theorem dX9_play_16 : decode cX9_play 16 = .ok (.aload_n 0, 1) := dk_42 (dk_at dksX9_play_0 16 rfl rfl)
theorem dX9_play_17 : decode cX9_play 17 = .ok (.getfield 200, 3) := dk_180 0 200 (dk_at dksX9_play_0 17 rfl rfl)
theorem dX9_play_20 : decode cX9_play 20 = .ok (.ifCond .eq 10, 3) := dk_153 0 10 (dk_at dksX9_play_0 20 rfl rfl)
theorem dX9_play_23 : decode cX9_play 23 = .ok (.aload_n 0, 1) := dk_42 (dk_at dksX9_play_0 23 rfl rfl)
theorem dX9_play_24 : decode cX9_play 24 = .ok (.invokevirtual 335, 3) := dk_182 1 79 (dk_at dksX9_play_1 0 rfl rfl)
theorem dX9_play_27 : decode cX9_play 27 = .ok (.goto (-18), 3) := dk_167 255 238 (dk_at dksX9_play_1 3 rfl rfl)
theorem dX9_play_30 : decode cX9_play 30 = .ok (.aload_n 0, 1) := dk_42 (dk_at dksX9_play_1 6 rfl rfl)
theorem dX9_play_31 : decode cX9_play 31 = .ok (.iconst 0, 1) := dk_3 (dk_at dksX9_play_1 7 rfl rfl)
theorem dX9_play_32 : decode cX9_play 32 = .ok (.putfield 178, 3) := dk_181 0 178 (dk_at dksX9_play_1 8 rfl rfl)
theorem dX9_play_35 : decode cX9_play 35 = .ok (.aload_n 0, 1) := dk_42 (dk_at dksX9_play_1 11 rfl rfl)
theorem dX9_play_36 : decode cX9_play 36 = .ok (.invokevirtual 187, 3) := dk_182 0 187 (dk_at dksX9_play_1 12 rfl rfl)
theorem dX9_play_39 : decode cX9_play 39 = .ok (.ifCond .ne 5, 3) := dk_154 0 5 (dk_at dksX9_play_1 15 rfl rfl)
theorem dX9_play_42 : decode cX9_play 42 = .ok (.iconst (-1), 1) := dk_2 (dk_at dksX9_play_1 18 rfl rfl)
theorem dX9_play_43 : decode cX9_play 43 = .ok (.ireturn, 1) := dk_172 (dk_at dksX9_play_1 19 rfl rfl)
theorem dX9_play_44 : decode cX9_play 44 = .ok (.iconst 0, 1) := dk_3 (dk_at dksX9_play_1 20 rfl rfl)
theorem dX9_play_45 : decode cX9_play 45 = .ok (.istore_n 1, 1) := dk_60 (dk_at dksX9_play_1 21 rfl rfl)
theorem dX9_play_46 : decode cX9_play 46 = .ok (.iload_n 1, 1) := dk_27 (dk_at dksX9_play_1 22 rfl rfl)
theorem dX9_play_47 : decode cX9_play 47 = .ok (.aload_n 0, 1) := dk_42 (dk_at dksX9_play_1 23 rfl rfl)
theorem dX9_play_48 : decode cX9_play 48 = .ok (.getfield 213, 3) := dk_180 0 213 (dk_at dksX9_play_2 0 rfl rfl)
theorem dX9_play_51 : decode cX9_play 51 = .ok (.if_icmp .ge 19, 3) := dk_162 0 19 (dk_at dksX9_play_2 3 rfl rfl)
theorem dX9_play_54 : decode cX9_play 54 = .ok (.aload_n 0, 1) := dk_42 (dk_at dksX9_play_2 6 rfl rfl)
theorem dX9_play_55 : decode cX9_play 55 = .ok (.iconst 4, 1) := dk_7 (dk_at dksX9_play_2 7 rfl rfl)
theorem dX9_play_56 : decode cX9_play 56 = .ok (.iload_n 1, 1) := dk_27 (dk_at dksX9_play_2 8 rfl rfl)
theorem dX9_play_57 : decode cX9_play 57 = .ok (.imul, 1) := dk_104 (dk_at dksX9_play_2 9 rfl rfl)
theorem dX9_play_58 : decode cX9_play 58 = .ok (.invokevirtual 338, 3) := dk_182 1 82 (dk_at dksX9_play_2 10 rfl rfl)
theorem dX9_play_61 : decode cX9_play 61 = .ok (.ifCond .lt 9, 3) := dk_155 0 9 (dk_at dksX9_play_2 13 rfl rfl)
theorem dX9_play_64 : decode cX9_play 64 = .ok (.iinc 1 1, 3) := dk_132 1 1 (dk_at dksX9_play_2 16 rfl rfl)
theorem dX9_play_67 : decode cX9_play 67 = .ok (.goto (-21), 3) := dk_167 255 235 (dk_at dksX9_play_2 19 rfl rfl)
theorem dX9_play_70 : decode cX9_play 70 = .ok (.iload_n 1, 1) := dk_27 (dk_at dksX9_play_2 22 rfl rfl)
theorem dX9_play_71 : decode cX9_play 71 = .ok (.ireturn, 1) := dk_172 (dk_at dksX9_play_2 23 rfl rfl)
abbrev cX9_parseCommand : ByteArray := prog_16_method_73_code
def yX9_parseCommand : MethodName := ⟨RX9, "parseCommand", "()V"⟩
def dkwX9_parseCommand_5 : List UInt8 := [181, 0, 213, 177]
abbrev dktX9_parseCommand_5 : List UInt8 := dkwX9_parseCommand_5 ++ []
def dkwX9_parseCommand_4 : List UInt8 := [4, 96, 29, 96, 42, 180, 0, 43, 29, 46, 79, 132, 3, 1, 167, 255, 232, 42, 89, 180, 0, 213, 4, 96]
abbrev dktX9_parseCommand_4 : List UInt8 := dkwX9_parseCommand_4 ++ dktX9_parseCommand_5
def dkwX9_parseCommand_3 : List UInt8 := [180, 0, 213, 104, 61, 42, 180, 0, 40, 28, 27, 79, 3, 62, 29, 6, 162, 0, 25, 42, 180, 0, 40, 28]
abbrev dktX9_parseCommand_3 : List UInt8 := dkwX9_parseCommand_3 ++ dktX9_parseCommand_4
def dkwX9_parseCommand_2 : List UInt8 := [182, 0, 187, 153, 0, 8, 42, 27, 182, 1, 54, 42, 182, 1, 18, 42, 182, 0, 187, 153, 0, 56, 7, 42]
abbrev dktX9_parseCommand_2 : List UInt8 := dkwX9_parseCommand_2 ++ dktX9_parseCommand_3
def dkwX9_parseCommand_1 : List UInt8 := [180, 0, 213, 16, 30, 162, 0, 7, 4, 167, 0, 4, 3, 7, 182, 0, 228, 42, 182, 0, 216, 42]
abbrev dktX9_parseCommand_1 : List UInt8 := dkwX9_parseCommand_1 ++ dktX9_parseCommand_2
def dkwX9_parseCommand_0 : List UInt8 := [42, 182, 1, 51, 60, 42, 27, 2, 159, 0, 7, 4, 167, 0, 4, 3, 4, 182, 0, 228, 42, 42]
abbrev dktX9_parseCommand_0 : List UInt8 := dkwX9_parseCommand_0 ++ dktX9_parseCommand_1
theorem dksX9_parseCommand_0 : cX9_parseCommand.data.toList.drop 0 = dktX9_parseCommand_0 := by decide +kernel
theorem dksX9_parseCommand_1 : cX9_parseCommand.data.toList.drop 22 = dktX9_parseCommand_1 := dk_seg dksX9_parseCommand_0 22 rfl rfl
theorem dksX9_parseCommand_2 : cX9_parseCommand.data.toList.drop 44 = dktX9_parseCommand_2 := dk_seg dksX9_parseCommand_1 22 rfl rfl
theorem dksX9_parseCommand_3 : cX9_parseCommand.data.toList.drop 68 = dktX9_parseCommand_3 := dk_seg dksX9_parseCommand_2 24 rfl rfl
theorem dksX9_parseCommand_4 : cX9_parseCommand.data.toList.drop 92 = dktX9_parseCommand_4 := dk_seg dksX9_parseCommand_3 24 rfl rfl
theorem dksX9_parseCommand_5 : cX9_parseCommand.data.toList.drop 116 = dktX9_parseCommand_5 := dk_seg dksX9_parseCommand_4 24 rfl rfl
theorem dX9_parseCommand_0 : decode cX9_parseCommand 0 = .ok (.aload_n 0, 1) := dk_42 (dk_at dksX9_parseCommand_0 0 rfl rfl)
theorem dX9_parseCommand_1 : decode cX9_parseCommand 1 = .ok (.invokevirtual 307, 3) := dk_182 1 51 (dk_at dksX9_parseCommand_0 1 rfl rfl)
theorem dX9_parseCommand_4 : decode cX9_parseCommand 4 = .ok (.istore_n 1, 1) := dk_60 (dk_at dksX9_parseCommand_0 4 rfl rfl)
theorem dX9_parseCommand_5 : decode cX9_parseCommand 5 = .ok (.aload_n 0, 1) := dk_42 (dk_at dksX9_parseCommand_0 5 rfl rfl)
theorem dX9_parseCommand_6 : decode cX9_parseCommand 6 = .ok (.iload_n 1, 1) := dk_27 (dk_at dksX9_parseCommand_0 6 rfl rfl)
theorem dX9_parseCommand_7 : decode cX9_parseCommand 7 = .ok (.iconst (-1), 1) := dk_2 (dk_at dksX9_parseCommand_0 7 rfl rfl)
theorem dX9_parseCommand_8 : decode cX9_parseCommand 8 = .ok (.if_icmp .eq 7, 3) := dk_159 0 7 (dk_at dksX9_parseCommand_0 8 rfl rfl)
theorem dX9_parseCommand_11 : decode cX9_parseCommand 11 = .ok (.iconst 1, 1) := dk_4 (dk_at dksX9_parseCommand_0 11 rfl rfl)
theorem dX9_parseCommand_12 : decode cX9_parseCommand 12 = .ok (.goto 4, 3) := dk_167 0 4 (dk_at dksX9_parseCommand_0 12 rfl rfl)
theorem dX9_parseCommand_15 : decode cX9_parseCommand 15 = .ok (.iconst 0, 1) := dk_3 (dk_at dksX9_parseCommand_0 15 rfl rfl)
theorem dX9_parseCommand_16 : decode cX9_parseCommand 16 = .ok (.iconst 1, 1) := dk_4 (dk_at dksX9_parseCommand_0 16 rfl rfl)
theorem dX9_parseCommand_17 : decode cX9_parseCommand 17 = .ok (.invokevirtual 228, 3) := dk_182 0 228 (dk_at dksX9_parseCommand_0 17 rfl rfl)
theorem dX9_parseCommand_20 : decode cX9_parseCommand 20 = .ok (.aload_n 0, 1) := dk_42 (dk_at dksX9_parseCommand_0 20 rfl rfl)
theorem dX9_parseCommand_21 : decode cX9_parseCommand 21 = .ok (.aload_n 0, 1) := dk_42 (dk_at dksX9_parseCommand_0 21 rfl rfl)
theorem dX9_parseCommand_22 : decode cX9_parseCommand 22 = .ok (.getfield 213, 3) := dk_180 0 213 (dk_at dksX9_parseCommand_1 0 rfl rfl)
theorem dX9_parseCommand_25 : decode cX9_parseCommand 25 = .ok (.bipush 30, 2) := dk_16 30 (dk_at dksX9_parseCommand_1 3 rfl rfl)
theorem dX9_parseCommand_27 : decode cX9_parseCommand 27 = .ok (.if_icmp .ge 7, 3) := dk_162 0 7 (dk_at dksX9_parseCommand_1 5 rfl rfl)
theorem dX9_parseCommand_30 : decode cX9_parseCommand 30 = .ok (.iconst 1, 1) := dk_4 (dk_at dksX9_parseCommand_1 8 rfl rfl)
theorem dX9_parseCommand_31 : decode cX9_parseCommand 31 = .ok (.goto 4, 3) := dk_167 0 4 (dk_at dksX9_parseCommand_1 9 rfl rfl)
theorem dX9_parseCommand_34 : decode cX9_parseCommand 34 = .ok (.iconst 0, 1) := dk_3 (dk_at dksX9_parseCommand_1 12 rfl rfl)
theorem dX9_parseCommand_35 : decode cX9_parseCommand 35 = .ok (.iconst 4, 1) := dk_7 (dk_at dksX9_parseCommand_1 13 rfl rfl)
theorem dX9_parseCommand_36 : decode cX9_parseCommand 36 = .ok (.invokevirtual 228, 3) := dk_182 0 228 (dk_at dksX9_parseCommand_1 14 rfl rfl)
theorem dX9_parseCommand_39 : decode cX9_parseCommand 39 = .ok (.aload_n 0, 1) := dk_42 (dk_at dksX9_parseCommand_1 17 rfl rfl)
theorem dX9_parseCommand_40 : decode cX9_parseCommand 40 = .ok (.invokevirtual 216, 3) := dk_182 0 216 (dk_at dksX9_parseCommand_1 18 rfl rfl)
theorem dX9_parseCommand_43 : decode cX9_parseCommand 43 = .ok (.aload_n 0, 1) := dk_42 (dk_at dksX9_parseCommand_1 21 rfl rfl)
theorem dX9_parseCommand_44 : decode cX9_parseCommand 44 = .ok (.invokevirtual 187, 3) := dk_182 0 187 (dk_at dksX9_parseCommand_2 0 rfl rfl)
theorem dX9_parseCommand_47 : decode cX9_parseCommand 47 = .ok (.ifCond .eq 8, 3) := dk_153 0 8 (dk_at dksX9_parseCommand_2 3 rfl rfl)
theorem dX9_parseCommand_50 : decode cX9_parseCommand 50 = .ok (.aload_n 0, 1) := dk_42 (dk_at dksX9_parseCommand_2 6 rfl rfl)
theorem dX9_parseCommand_51 : decode cX9_parseCommand 51 = .ok (.iload_n 1, 1) := dk_27 (dk_at dksX9_parseCommand_2 7 rfl rfl)
theorem dX9_parseCommand_52 : decode cX9_parseCommand 52 = .ok (.invokevirtual 310, 3) := dk_182 1 54 (dk_at dksX9_parseCommand_2 8 rfl rfl)
theorem dX9_parseCommand_55 : decode cX9_parseCommand 55 = .ok (.aload_n 0, 1) := dk_42 (dk_at dksX9_parseCommand_2 11 rfl rfl)
theorem dX9_parseCommand_56 : decode cX9_parseCommand 56 = .ok (.invokevirtual 274, 3) := dk_182 1 18 (dk_at dksX9_parseCommand_2 12 rfl rfl)
theorem dX9_parseCommand_59 : decode cX9_parseCommand 59 = .ok (.aload_n 0, 1) := dk_42 (dk_at dksX9_parseCommand_2 15 rfl rfl)
theorem dX9_parseCommand_60 : decode cX9_parseCommand 60 = .ok (.invokevirtual 187, 3) := dk_182 0 187 (dk_at dksX9_parseCommand_2 16 rfl rfl)
theorem dX9_parseCommand_63 : decode cX9_parseCommand 63 = .ok (.ifCond .eq 56, 3) := dk_153 0 56 (dk_at dksX9_parseCommand_2 19 rfl rfl)
theorem dX9_parseCommand_66 : decode cX9_parseCommand 66 = .ok (.iconst 4, 1) := dk_7 (dk_at dksX9_parseCommand_2 22 rfl rfl)
theorem dX9_parseCommand_67 : decode cX9_parseCommand 67 = .ok (.aload_n 0, 1) := dk_42 (dk_at dksX9_parseCommand_2 23 rfl rfl)
theorem dX9_parseCommand_68 : decode cX9_parseCommand 68 = .ok (.getfield 213, 3) := dk_180 0 213 (dk_at dksX9_parseCommand_3 0 rfl rfl)
theorem dX9_parseCommand_71 : decode cX9_parseCommand 71 = .ok (.imul, 1) := dk_104 (dk_at dksX9_parseCommand_3 3 rfl rfl)
theorem dX9_parseCommand_72 : decode cX9_parseCommand 72 = .ok (.istore_n 2, 1) := dk_61 (dk_at dksX9_parseCommand_3 4 rfl rfl)
theorem dX9_parseCommand_73 : decode cX9_parseCommand 73 = .ok (.aload_n 0, 1) := dk_42 (dk_at dksX9_parseCommand_3 5 rfl rfl)
theorem dX9_parseCommand_74 : decode cX9_parseCommand 74 = .ok (.getfield 40, 3) := dk_180 0 40 (dk_at dksX9_parseCommand_3 6 rfl rfl)
theorem dX9_parseCommand_77 : decode cX9_parseCommand 77 = .ok (.iload_n 2, 1) := dk_28 (dk_at dksX9_parseCommand_3 9 rfl rfl)
theorem dX9_parseCommand_78 : decode cX9_parseCommand 78 = .ok (.iload_n 1, 1) := dk_27 (dk_at dksX9_parseCommand_3 10 rfl rfl)
theorem dX9_parseCommand_79 : decode cX9_parseCommand 79 = .ok (.iastore, 1) := dk_79 (dk_at dksX9_parseCommand_3 11 rfl rfl)
theorem dX9_parseCommand_80 : decode cX9_parseCommand 80 = .ok (.iconst 0, 1) := dk_3 (dk_at dksX9_parseCommand_3 12 rfl rfl)
theorem dX9_parseCommand_81 : decode cX9_parseCommand 81 = .ok (.istore_n 3, 1) := dk_62 (dk_at dksX9_parseCommand_3 13 rfl rfl)
theorem dX9_parseCommand_82 : decode cX9_parseCommand 82 = .ok (.iload_n 3, 1) := dk_29 (dk_at dksX9_parseCommand_3 14 rfl rfl)
theorem dX9_parseCommand_83 : decode cX9_parseCommand 83 = .ok (.iconst 3, 1) := dk_6 (dk_at dksX9_parseCommand_3 15 rfl rfl)
theorem dX9_parseCommand_84 : decode cX9_parseCommand 84 = .ok (.if_icmp .ge 25, 3) := dk_162 0 25 (dk_at dksX9_parseCommand_3 16 rfl rfl)
theorem dX9_parseCommand_87 : decode cX9_parseCommand 87 = .ok (.aload_n 0, 1) := dk_42 (dk_at dksX9_parseCommand_3 19 rfl rfl)
theorem dX9_parseCommand_88 : decode cX9_parseCommand 88 = .ok (.getfield 40, 3) := dk_180 0 40 (dk_at dksX9_parseCommand_3 20 rfl rfl)
theorem dX9_parseCommand_91 : decode cX9_parseCommand 91 = .ok (.iload_n 2, 1) := dk_28 (dk_at dksX9_parseCommand_3 23 rfl rfl)
theorem dX9_parseCommand_92 : decode cX9_parseCommand 92 = .ok (.iconst 1, 1) := dk_4 (dk_at dksX9_parseCommand_4 0 rfl rfl)
theorem dX9_parseCommand_93 : decode cX9_parseCommand 93 = .ok (.iadd, 1) := dk_96 (dk_at dksX9_parseCommand_4 1 rfl rfl)
theorem dX9_parseCommand_94 : decode cX9_parseCommand 94 = .ok (.iload_n 3, 1) := dk_29 (dk_at dksX9_parseCommand_4 2 rfl rfl)
theorem dX9_parseCommand_95 : decode cX9_parseCommand 95 = .ok (.iadd, 1) := dk_96 (dk_at dksX9_parseCommand_4 3 rfl rfl)
theorem dX9_parseCommand_96 : decode cX9_parseCommand 96 = .ok (.aload_n 0, 1) := dk_42 (dk_at dksX9_parseCommand_4 4 rfl rfl)
theorem dX9_parseCommand_97 : decode cX9_parseCommand 97 = .ok (.getfield 43, 3) := dk_180 0 43 (dk_at dksX9_parseCommand_4 5 rfl rfl)
theorem dX9_parseCommand_100 : decode cX9_parseCommand 100 = .ok (.iload_n 3, 1) := dk_29 (dk_at dksX9_parseCommand_4 8 rfl rfl)
theorem dX9_parseCommand_101 : decode cX9_parseCommand 101 = .ok (.iaload, 1) := dk_46 (dk_at dksX9_parseCommand_4 9 rfl rfl)
theorem dX9_parseCommand_102 : decode cX9_parseCommand 102 = .ok (.iastore, 1) := dk_79 (dk_at dksX9_parseCommand_4 10 rfl rfl)
theorem dX9_parseCommand_103 : decode cX9_parseCommand 103 = .ok (.iinc 3 1, 3) := dk_132 3 1 (dk_at dksX9_parseCommand_4 11 rfl rfl)
theorem dX9_parseCommand_106 : decode cX9_parseCommand 106 = .ok (.goto (-24), 3) := dk_167 255 232 (dk_at dksX9_parseCommand_4 14 rfl rfl)
theorem dX9_parseCommand_109 : decode cX9_parseCommand 109 = .ok (.aload_n 0, 1) := dk_42 (dk_at dksX9_parseCommand_4 17 rfl rfl)
theorem dX9_parseCommand_110 : decode cX9_parseCommand 110 = .ok (.dup, 1) := dk_89 (dk_at dksX9_parseCommand_4 18 rfl rfl)
theorem dX9_parseCommand_111 : decode cX9_parseCommand 111 = .ok (.getfield 213, 3) := dk_180 0 213 (dk_at dksX9_parseCommand_4 19 rfl rfl)
theorem dX9_parseCommand_114 : decode cX9_parseCommand 114 = .ok (.iconst 1, 1) := dk_4 (dk_at dksX9_parseCommand_4 22 rfl rfl)
theorem dX9_parseCommand_115 : decode cX9_parseCommand 115 = .ok (.iadd, 1) := dk_96 (dk_at dksX9_parseCommand_4 23 rfl rfl)
theorem dX9_parseCommand_116 : decode cX9_parseCommand 116 = .ok (.putfield 213, 3) := dk_181 0 213 (dk_at dksX9_parseCommand_5 0 rfl rfl)
theorem dX9_parseCommand_119 : decode cX9_parseCommand 119 = .ok (.return_, 1) := dk_177 (dk_at dksX9_parseCommand_5 3 rfl rfl)
abbrev cX9_commandHere : ByteArray := prog_16_method_70_code
def yX9_commandHere : MethodName := ⟨RX9, "commandHere", "()I"⟩
def dkwX9_commandHere_2 : List UInt8 := [42, 19, 1, 46, 182, 0, 247, 153, 0, 7, 7, 167, 0, 4, 2, 172]
abbrev dktX9_commandHere_2 : List UInt8 := dkwX9_commandHere_2 ++ []
def dkwX9_commandHere_1 : List UInt8 := [42, 19, 1, 43, 182, 0, 247, 153, 0, 5, 5, 172, 42, 19, 1, 45, 182, 0, 247, 153, 0, 5, 6, 172]
abbrev dktX9_commandHere_1 : List UInt8 := dkwX9_commandHere_1 ++ dktX9_commandHere_2
def dkwX9_commandHere_0 : List UInt8 := [42, 19, 1, 39, 182, 0, 247, 153, 0, 5, 3, 172, 42, 19, 1, 41, 182, 0, 247, 153, 0, 5, 4, 172]
abbrev dktX9_commandHere_0 : List UInt8 := dkwX9_commandHere_0 ++ dktX9_commandHere_1
theorem dksX9_commandHere_0 : cX9_commandHere.data.toList.drop 0 = dktX9_commandHere_0 := by decide +kernel
theorem dksX9_commandHere_1 : cX9_commandHere.data.toList.drop 24 = dktX9_commandHere_1 := dk_seg dksX9_commandHere_0 24 rfl rfl
theorem dksX9_commandHere_2 : cX9_commandHere.data.toList.drop 48 = dktX9_commandHere_2 := dk_seg dksX9_commandHere_1 24 rfl rfl
theorem dX9_commandHere_0 : decode cX9_commandHere 0 = .ok (.aload_n 0, 1) := dk_42 (dk_at dksX9_commandHere_0 0 rfl rfl)
theorem dX9_commandHere_1 : decode cX9_commandHere 1 = .ok (.ldc_w 295, 3) := dk_19 1 39 (dk_at dksX9_commandHere_0 1 rfl rfl)
theorem dX9_commandHere_4 : decode cX9_commandHere 4 = .ok (.invokevirtual 247, 3) := dk_182 0 247 (dk_at dksX9_commandHere_0 4 rfl rfl)
theorem dX9_commandHere_7 : decode cX9_commandHere 7 = .ok (.ifCond .eq 5, 3) := dk_153 0 5 (dk_at dksX9_commandHere_0 7 rfl rfl)
theorem dX9_commandHere_10 : decode cX9_commandHere 10 = .ok (.iconst 0, 1) := dk_3 (dk_at dksX9_commandHere_0 10 rfl rfl)
theorem dX9_commandHere_11 : decode cX9_commandHere 11 = .ok (.ireturn, 1) := dk_172 (dk_at dksX9_commandHere_0 11 rfl rfl)
theorem dX9_commandHere_12 : decode cX9_commandHere 12 = .ok (.aload_n 0, 1) := dk_42 (dk_at dksX9_commandHere_0 12 rfl rfl)
theorem dX9_commandHere_13 : decode cX9_commandHere 13 = .ok (.ldc_w 297, 3) := dk_19 1 41 (dk_at dksX9_commandHere_0 13 rfl rfl)
theorem dX9_commandHere_16 : decode cX9_commandHere 16 = .ok (.invokevirtual 247, 3) := dk_182 0 247 (dk_at dksX9_commandHere_0 16 rfl rfl)
theorem dX9_commandHere_19 : decode cX9_commandHere 19 = .ok (.ifCond .eq 5, 3) := dk_153 0 5 (dk_at dksX9_commandHere_0 19 rfl rfl)
theorem dX9_commandHere_22 : decode cX9_commandHere 22 = .ok (.iconst 1, 1) := dk_4 (dk_at dksX9_commandHere_0 22 rfl rfl)
theorem dX9_commandHere_23 : decode cX9_commandHere 23 = .ok (.ireturn, 1) := dk_172 (dk_at dksX9_commandHere_0 23 rfl rfl)
theorem dX9_commandHere_24 : decode cX9_commandHere 24 = .ok (.aload_n 0, 1) := dk_42 (dk_at dksX9_commandHere_1 0 rfl rfl)
theorem dX9_commandHere_25 : decode cX9_commandHere 25 = .ok (.ldc_w 299, 3) := dk_19 1 43 (dk_at dksX9_commandHere_1 1 rfl rfl)
theorem dX9_commandHere_28 : decode cX9_commandHere 28 = .ok (.invokevirtual 247, 3) := dk_182 0 247 (dk_at dksX9_commandHere_1 4 rfl rfl)
theorem dX9_commandHere_31 : decode cX9_commandHere 31 = .ok (.ifCond .eq 5, 3) := dk_153 0 5 (dk_at dksX9_commandHere_1 7 rfl rfl)
theorem dX9_commandHere_34 : decode cX9_commandHere 34 = .ok (.iconst 2, 1) := dk_5 (dk_at dksX9_commandHere_1 10 rfl rfl)
theorem dX9_commandHere_35 : decode cX9_commandHere 35 = .ok (.ireturn, 1) := dk_172 (dk_at dksX9_commandHere_1 11 rfl rfl)
theorem dX9_commandHere_36 : decode cX9_commandHere 36 = .ok (.aload_n 0, 1) := dk_42 (dk_at dksX9_commandHere_1 12 rfl rfl)
theorem dX9_commandHere_37 : decode cX9_commandHere 37 = .ok (.ldc_w 301, 3) := dk_19 1 45 (dk_at dksX9_commandHere_1 13 rfl rfl)
theorem dX9_commandHere_40 : decode cX9_commandHere 40 = .ok (.invokevirtual 247, 3) := dk_182 0 247 (dk_at dksX9_commandHere_1 16 rfl rfl)
theorem dX9_commandHere_43 : decode cX9_commandHere 43 = .ok (.ifCond .eq 5, 3) := dk_153 0 5 (dk_at dksX9_commandHere_1 19 rfl rfl)
theorem dX9_commandHere_46 : decode cX9_commandHere 46 = .ok (.iconst 3, 1) := dk_6 (dk_at dksX9_commandHere_1 22 rfl rfl)
theorem dX9_commandHere_47 : decode cX9_commandHere 47 = .ok (.ireturn, 1) := dk_172 (dk_at dksX9_commandHere_1 23 rfl rfl)
theorem dX9_commandHere_48 : decode cX9_commandHere 48 = .ok (.aload_n 0, 1) := dk_42 (dk_at dksX9_commandHere_2 0 rfl rfl)
theorem dX9_commandHere_49 : decode cX9_commandHere 49 = .ok (.ldc_w 302, 3) := dk_19 1 46 (dk_at dksX9_commandHere_2 1 rfl rfl)
theorem dX9_commandHere_52 : decode cX9_commandHere 52 = .ok (.invokevirtual 247, 3) := dk_182 0 247 (dk_at dksX9_commandHere_2 4 rfl rfl)
theorem dX9_commandHere_55 : decode cX9_commandHere 55 = .ok (.ifCond .eq 7, 3) := dk_153 0 7 (dk_at dksX9_commandHere_2 7 rfl rfl)
theorem dX9_commandHere_58 : decode cX9_commandHere 58 = .ok (.iconst 4, 1) := dk_7 (dk_at dksX9_commandHere_2 10 rfl rfl)
theorem dX9_commandHere_59 : decode cX9_commandHere 59 = .ok (.goto 4, 3) := dk_167 0 4 (dk_at dksX9_commandHere_2 11 rfl rfl)
theorem dX9_commandHere_62 : decode cX9_commandHere 62 = .ok (.iconst (-1), 1) := dk_2 (dk_at dksX9_commandHere_2 14 rfl rfl)
theorem dX9_commandHere_63 : decode cX9_commandHere 63 = .ok (.ireturn, 1) := dk_172 (dk_at dksX9_commandHere_2 15 rfl rfl)
abbrev cX9_parseSaids : ByteArray := prog_16_method_72_code
def yX9_parseSaids : MethodName := ⟨RX9, "parseSaids", "(I)V"⟩
def dkwX9_parseSaids_2 : List UInt8 := [16, 9, 182, 1, 48, 177]
abbrev dktX9_parseSaids_2 : List UInt8 := dkwX9_parseSaids_2 ++ []
def dkwX9_parseSaids_1 : List UInt8 := [182, 1, 48, 27, 5, 160, 0, 9, 42, 5, 6, 182, 1, 48, 42, 4, 27, 154, 0, 7, 6, 167, 0, 5]
abbrev dktX9_parseSaids_1 : List UInt8 := dkwX9_parseSaids_1 ++ dktX9_parseSaids_2
def dkwX9_parseSaids_0 : List UInt8 := [27, 7, 160, 0, 17, 42, 180, 0, 43, 3, 42, 4, 16, 20, 182, 0, 242, 79, 177, 42, 3, 6]
abbrev dktX9_parseSaids_0 : List UInt8 := dkwX9_parseSaids_0 ++ dktX9_parseSaids_1
theorem dksX9_parseSaids_0 : cX9_parseSaids.data.toList.drop 0 = dktX9_parseSaids_0 := by decide +kernel
theorem dksX9_parseSaids_1 : cX9_parseSaids.data.toList.drop 22 = dktX9_parseSaids_1 := dk_seg dksX9_parseSaids_0 22 rfl rfl
theorem dksX9_parseSaids_2 : cX9_parseSaids.data.toList.drop 46 = dktX9_parseSaids_2 := dk_seg dksX9_parseSaids_1 24 rfl rfl
theorem dX9_parseSaids_0 : decode cX9_parseSaids 0 = .ok (.iload_n 1, 1) := dk_27 (dk_at dksX9_parseSaids_0 0 rfl rfl)
theorem dX9_parseSaids_1 : decode cX9_parseSaids 1 = .ok (.iconst 4, 1) := dk_7 (dk_at dksX9_parseSaids_0 1 rfl rfl)
theorem dX9_parseSaids_2 : decode cX9_parseSaids 2 = .ok (.if_icmp .ne 17, 3) := dk_160 0 17 (dk_at dksX9_parseSaids_0 2 rfl rfl)
theorem dX9_parseSaids_5 : decode cX9_parseSaids 5 = .ok (.aload_n 0, 1) := dk_42 (dk_at dksX9_parseSaids_0 5 rfl rfl)
theorem dX9_parseSaids_6 : decode cX9_parseSaids 6 = .ok (.getfield 43, 3) := dk_180 0 43 (dk_at dksX9_parseSaids_0 6 rfl rfl)
theorem dX9_parseSaids_9 : decode cX9_parseSaids 9 = .ok (.iconst 0, 1) := dk_3 (dk_at dksX9_parseSaids_0 9 rfl rfl)
theorem dX9_parseSaids_10 : decode cX9_parseSaids 10 = .ok (.aload_n 0, 1) := dk_42 (dk_at dksX9_parseSaids_0 10 rfl rfl)
theorem dX9_parseSaids_11 : decode cX9_parseSaids 11 = .ok (.iconst 1, 1) := dk_4 (dk_at dksX9_parseSaids_0 11 rfl rfl)
theorem dX9_parseSaids_12 : decode cX9_parseSaids 12 = .ok (.bipush 20, 2) := dk_16 20 (dk_at dksX9_parseSaids_0 12 rfl rfl)
theorem dX9_parseSaids_14 : decode cX9_parseSaids 14 = .ok (.invokevirtual 242, 3) := dk_182 0 242 (dk_at dksX9_parseSaids_0 14 rfl rfl)
theorem dX9_parseSaids_17 : decode cX9_parseSaids 17 = .ok (.iastore, 1) := dk_79 (dk_at dksX9_parseSaids_0 17 rfl rfl)
theorem dX9_parseSaids_18 : decode cX9_parseSaids 18 = .ok (.return_, 1) := dk_177 (dk_at dksX9_parseSaids_0 18 rfl rfl)
theorem dX9_parseSaids_19 : decode cX9_parseSaids 19 = .ok (.aload_n 0, 1) := dk_42 (dk_at dksX9_parseSaids_0 19 rfl rfl)
theorem dX9_parseSaids_20 : decode cX9_parseSaids 20 = .ok (.iconst 0, 1) := dk_3 (dk_at dksX9_parseSaids_0 20 rfl rfl)
theorem dX9_parseSaids_21 : decode cX9_parseSaids 21 = .ok (.iconst 3, 1) := dk_6 (dk_at dksX9_parseSaids_0 21 rfl rfl)
theorem dX9_parseSaids_22 : decode cX9_parseSaids 22 = .ok (.invokevirtual 304, 3) := dk_182 1 48 (dk_at dksX9_parseSaids_1 0 rfl rfl)
theorem dX9_parseSaids_25 : decode cX9_parseSaids 25 = .ok (.iload_n 1, 1) := dk_27 (dk_at dksX9_parseSaids_1 3 rfl rfl)
theorem dX9_parseSaids_26 : decode cX9_parseSaids 26 = .ok (.iconst 2, 1) := dk_5 (dk_at dksX9_parseSaids_1 4 rfl rfl)
theorem dX9_parseSaids_27 : decode cX9_parseSaids 27 = .ok (.if_icmp .ne 9, 3) := dk_160 0 9 (dk_at dksX9_parseSaids_1 5 rfl rfl)
theorem dX9_parseSaids_30 : decode cX9_parseSaids 30 = .ok (.aload_n 0, 1) := dk_42 (dk_at dksX9_parseSaids_1 8 rfl rfl)
theorem dX9_parseSaids_31 : decode cX9_parseSaids 31 = .ok (.iconst 2, 1) := dk_5 (dk_at dksX9_parseSaids_1 9 rfl rfl)
theorem dX9_parseSaids_32 : decode cX9_parseSaids 32 = .ok (.iconst 3, 1) := dk_6 (dk_at dksX9_parseSaids_1 10 rfl rfl)
theorem dX9_parseSaids_33 : decode cX9_parseSaids 33 = .ok (.invokevirtual 304, 3) := dk_182 1 48 (dk_at dksX9_parseSaids_1 11 rfl rfl)
theorem dX9_parseSaids_36 : decode cX9_parseSaids 36 = .ok (.aload_n 0, 1) := dk_42 (dk_at dksX9_parseSaids_1 14 rfl rfl)
theorem dX9_parseSaids_37 : decode cX9_parseSaids 37 = .ok (.iconst 1, 1) := dk_4 (dk_at dksX9_parseSaids_1 15 rfl rfl)
theorem dX9_parseSaids_38 : decode cX9_parseSaids 38 = .ok (.iload_n 1, 1) := dk_27 (dk_at dksX9_parseSaids_1 16 rfl rfl)
theorem dX9_parseSaids_39 : decode cX9_parseSaids 39 = .ok (.ifCond .ne 7, 3) := dk_154 0 7 (dk_at dksX9_parseSaids_1 17 rfl rfl)
theorem dX9_parseSaids_42 : decode cX9_parseSaids 42 = .ok (.iconst 3, 1) := dk_6 (dk_at dksX9_parseSaids_1 20 rfl rfl)
theorem dX9_parseSaids_43 : decode cX9_parseSaids 43 = .ok (.goto 5, 3) := dk_167 0 5 (dk_at dksX9_parseSaids_1 21 rfl rfl)
theorem dX9_parseSaids_46 : decode cX9_parseSaids 46 = .ok (.bipush 9, 2) := dk_16 9 (dk_at dksX9_parseSaids_2 0 rfl rfl)
theorem dX9_parseSaids_48 : decode cX9_parseSaids 48 = .ok (.invokevirtual 304, 3) := dk_182 1 48 (dk_at dksX9_parseSaids_2 2 rfl rfl)
theorem dX9_parseSaids_51 : decode cX9_parseSaids 51 = .ok (.return_, 1) := dk_177 (dk_at dksX9_parseSaids_2 5 rfl rfl)
abbrev cX9_parseSaid : ByteArray := prog_16_method_71_code
def yX9_parseSaid : MethodName := ⟨RX9, "parseSaid", "(II)V"⟩
def dkwX9_parseSaid_0 : List UInt8 := [42, 180, 0, 43, 27, 42, 3, 28, 182, 0, 242, 79, 177]
abbrev dktX9_parseSaid_0 : List UInt8 := dkwX9_parseSaid_0 ++ []
theorem dksX9_parseSaid_0 : cX9_parseSaid.data.toList.drop 0 = dktX9_parseSaid_0 := by decide +kernel
theorem dX9_parseSaid_0 : decode cX9_parseSaid 0 = .ok (.aload_n 0, 1) := dk_42 (dk_at dksX9_parseSaid_0 0 rfl rfl)
theorem dX9_parseSaid_1 : decode cX9_parseSaid 1 = .ok (.getfield 43, 3) := dk_180 0 43 (dk_at dksX9_parseSaid_0 1 rfl rfl)
theorem dX9_parseSaid_4 : decode cX9_parseSaid 4 = .ok (.iload_n 1, 1) := dk_27 (dk_at dksX9_parseSaid_0 4 rfl rfl)
theorem dX9_parseSaid_5 : decode cX9_parseSaid 5 = .ok (.aload_n 0, 1) := dk_42 (dk_at dksX9_parseSaid_0 5 rfl rfl)
theorem dX9_parseSaid_6 : decode cX9_parseSaid 6 = .ok (.iconst 0, 1) := dk_3 (dk_at dksX9_parseSaid_0 6 rfl rfl)
theorem dX9_parseSaid_7 : decode cX9_parseSaid 7 = .ok (.iload_n 2, 1) := dk_28 (dk_at dksX9_parseSaid_0 7 rfl rfl)
theorem dX9_parseSaid_8 : decode cX9_parseSaid 8 = .ok (.invokevirtual 242, 3) := dk_182 0 242 (dk_at dksX9_parseSaid_0 8 rfl rfl)
theorem dX9_parseSaid_11 : decode cX9_parseSaid 11 = .ok (.iastore, 1) := dk_79 (dk_at dksX9_parseSaid_0 11 rfl rfl)
theorem dX9_parseSaid_12 : decode cX9_parseSaid 12 = .ok (.return_, 1) := dk_177 (dk_at dksX9_parseSaid_0 12 rfl rfl)
abbrev cX9_doCommand : ByteArray := prog_16_method_74_code
def yX9_doCommand : MethodName := ⟨RX9, "doCommand", "(I)I"⟩
def dkwX9_doCommand_7 : List UInt8 := [167, 0, 4, 2, 172]
abbrev dktX9_doCommand_7 : List UInt8 := dkwX9_doCommand_7 ++ []
def dkwX9_doCommand_6 : List UInt8 := [182, 1, 72, 167, 0, 4, 2, 172, 42, 29, 182, 1, 66, 153, 0, 12, 42, 28, 29, 182, 1, 76]
abbrev dktX9_doCommand_6 : List UInt8 := dkwX9_doCommand_6 ++ dktX9_doCommand_7
def dkwX9_doCommand_5 : List UInt8 := [2, 172, 42, 21, 4, 182, 1, 60, 153, 0, 22, 42, 29, 182, 1, 66, 153, 0, 14, 42, 28, 21, 4, 29]
abbrev dktX9_doCommand_5 : List UInt8 := dkwX9_doCommand_5 ++ dktX9_doCommand_6
def dkwX9_doCommand_4 : List UInt8 := [42, 28, 29, 182, 1, 63, 172, 42, 29, 182, 1, 66, 153, 0, 12, 42, 28, 29, 182, 1, 69, 167, 0, 4]
abbrev dktX9_doCommand_4 : List UInt8 := dkwX9_doCommand_4 ++ dktX9_doCommand_5
def dkwX9_doCommand_3 : List UInt8 := [170, 0, 0, 0, 0, 0, 0, 84, 0, 0, 0, 0, 0, 0, 0, 2, 0, 0, 0, 28, 0, 0, 0, 35, 0, 0, 0, 54]
abbrev dktX9_doCommand_3 : List UInt8 := dkwX9_doCommand_3 ++ dktX9_doCommand_4
def dkwX9_doCommand_2 : List UInt8 := [182, 1, 60, 154, 0, 5, 2, 172, 42, 180, 0, 40, 27, 46]
abbrev dktX9_doCommand_2 : List UInt8 := dkwX9_doCommand_2 ++ dktX9_doCommand_3
def dkwX9_doCommand_1 : List UInt8 := [96, 46, 54, 4, 42, 180, 0, 40, 27, 46, 7, 160, 0, 9, 42, 28, 182, 1, 57, 172, 42, 28]
abbrev dktX9_doCommand_1 : List UInt8 := dkwX9_doCommand_1 ++ dktX9_doCommand_2
def dkwX9_doCommand_0 : List UInt8 := [42, 180, 0, 40, 27, 4, 96, 46, 61, 42, 180, 0, 40, 27, 5, 96, 46, 62, 42, 180, 0, 40, 27, 6]
abbrev dktX9_doCommand_0 : List UInt8 := dkwX9_doCommand_0 ++ dktX9_doCommand_1
theorem dksX9_doCommand_0 : cX9_doCommand.data.toList.drop 0 = dktX9_doCommand_0 := by decide +kernel
theorem dksX9_doCommand_1 : cX9_doCommand.data.toList.drop 24 = dktX9_doCommand_1 := dk_seg dksX9_doCommand_0 24 rfl rfl
theorem dksX9_doCommand_2 : cX9_doCommand.data.toList.drop 46 = dktX9_doCommand_2 := dk_seg dksX9_doCommand_1 22 rfl rfl
theorem dksX9_doCommand_3 : cX9_doCommand.data.toList.drop 60 = dktX9_doCommand_3 := dk_seg dksX9_doCommand_2 14 rfl rfl
theorem dksX9_doCommand_4 : cX9_doCommand.data.toList.drop 88 = dktX9_doCommand_4 := dk_seg dksX9_doCommand_3 28 rfl rfl
theorem dksX9_doCommand_5 : cX9_doCommand.data.toList.drop 112 = dktX9_doCommand_5 := dk_seg dksX9_doCommand_4 24 rfl rfl
theorem dksX9_doCommand_6 : cX9_doCommand.data.toList.drop 136 = dktX9_doCommand_6 := dk_seg dksX9_doCommand_5 24 rfl rfl
theorem dksX9_doCommand_7 : cX9_doCommand.data.toList.drop 158 = dktX9_doCommand_7 := dk_seg dksX9_doCommand_6 22 rfl rfl
theorem dX9_doCommand_0 : decode cX9_doCommand 0 = .ok (.aload_n 0, 1) := dk_42 (dk_at dksX9_doCommand_0 0 rfl rfl)
theorem dX9_doCommand_1 : decode cX9_doCommand 1 = .ok (.getfield 40, 3) := dk_180 0 40 (dk_at dksX9_doCommand_0 1 rfl rfl)
theorem dX9_doCommand_4 : decode cX9_doCommand 4 = .ok (.iload_n 1, 1) := dk_27 (dk_at dksX9_doCommand_0 4 rfl rfl)
theorem dX9_doCommand_5 : decode cX9_doCommand 5 = .ok (.iconst 1, 1) := dk_4 (dk_at dksX9_doCommand_0 5 rfl rfl)
theorem dX9_doCommand_6 : decode cX9_doCommand 6 = .ok (.iadd, 1) := dk_96 (dk_at dksX9_doCommand_0 6 rfl rfl)
theorem dX9_doCommand_7 : decode cX9_doCommand 7 = .ok (.iaload, 1) := dk_46 (dk_at dksX9_doCommand_0 7 rfl rfl)
theorem dX9_doCommand_8 : decode cX9_doCommand 8 = .ok (.istore_n 2, 1) := dk_61 (dk_at dksX9_doCommand_0 8 rfl rfl)
theorem dX9_doCommand_9 : decode cX9_doCommand 9 = .ok (.aload_n 0, 1) := dk_42 (dk_at dksX9_doCommand_0 9 rfl rfl)
theorem dX9_doCommand_10 : decode cX9_doCommand 10 = .ok (.getfield 40, 3) := dk_180 0 40 (dk_at dksX9_doCommand_0 10 rfl rfl)
theorem dX9_doCommand_13 : decode cX9_doCommand 13 = .ok (.iload_n 1, 1) := dk_27 (dk_at dksX9_doCommand_0 13 rfl rfl)
theorem dX9_doCommand_14 : decode cX9_doCommand 14 = .ok (.iconst 2, 1) := dk_5 (dk_at dksX9_doCommand_0 14 rfl rfl)
theorem dX9_doCommand_15 : decode cX9_doCommand 15 = .ok (.iadd, 1) := dk_96 (dk_at dksX9_doCommand_0 15 rfl rfl)
theorem dX9_doCommand_16 : decode cX9_doCommand 16 = .ok (.iaload, 1) := dk_46 (dk_at dksX9_doCommand_0 16 rfl rfl)
theorem dX9_doCommand_17 : decode cX9_doCommand 17 = .ok (.istore_n 3, 1) := dk_62 (dk_at dksX9_doCommand_0 17 rfl rfl)
theorem dX9_doCommand_18 : decode cX9_doCommand 18 = .ok (.aload_n 0, 1) := dk_42 (dk_at dksX9_doCommand_0 18 rfl rfl)
theorem dX9_doCommand_19 : decode cX9_doCommand 19 = .ok (.getfield 40, 3) := dk_180 0 40 (dk_at dksX9_doCommand_0 19 rfl rfl)
theorem dX9_doCommand_22 : decode cX9_doCommand 22 = .ok (.iload_n 1, 1) := dk_27 (dk_at dksX9_doCommand_0 22 rfl rfl)
theorem dX9_doCommand_23 : decode cX9_doCommand 23 = .ok (.iconst 3, 1) := dk_6 (dk_at dksX9_doCommand_0 23 rfl rfl)
theorem dX9_doCommand_24 : decode cX9_doCommand 24 = .ok (.iadd, 1) := dk_96 (dk_at dksX9_doCommand_1 0 rfl rfl)
theorem dX9_doCommand_25 : decode cX9_doCommand 25 = .ok (.iaload, 1) := dk_46 (dk_at dksX9_doCommand_1 1 rfl rfl)
theorem dX9_doCommand_26 : decode cX9_doCommand 26 = .ok (.istore 4, 2) := dk_54 4 (dk_at dksX9_doCommand_1 2 rfl rfl)
theorem dX9_doCommand_28 : decode cX9_doCommand 28 = .ok (.aload_n 0, 1) := dk_42 (dk_at dksX9_doCommand_1 4 rfl rfl)
theorem dX9_doCommand_29 : decode cX9_doCommand 29 = .ok (.getfield 40, 3) := dk_180 0 40 (dk_at dksX9_doCommand_1 5 rfl rfl)
theorem dX9_doCommand_32 : decode cX9_doCommand 32 = .ok (.iload_n 1, 1) := dk_27 (dk_at dksX9_doCommand_1 8 rfl rfl)
theorem dX9_doCommand_33 : decode cX9_doCommand 33 = .ok (.iaload, 1) := dk_46 (dk_at dksX9_doCommand_1 9 rfl rfl)
theorem dX9_doCommand_34 : decode cX9_doCommand 34 = .ok (.iconst 4, 1) := dk_7 (dk_at dksX9_doCommand_1 10 rfl rfl)
theorem dX9_doCommand_35 : decode cX9_doCommand 35 = .ok (.if_icmp .ne 9, 3) := dk_160 0 9 (dk_at dksX9_doCommand_1 11 rfl rfl)
theorem dX9_doCommand_38 : decode cX9_doCommand 38 = .ok (.aload_n 0, 1) := dk_42 (dk_at dksX9_doCommand_1 14 rfl rfl)
theorem dX9_doCommand_39 : decode cX9_doCommand 39 = .ok (.iload_n 2, 1) := dk_28 (dk_at dksX9_doCommand_1 15 rfl rfl)
theorem dX9_doCommand_40 : decode cX9_doCommand 40 = .ok (.invokevirtual 313, 3) := dk_182 1 57 (dk_at dksX9_doCommand_1 16 rfl rfl)
theorem dX9_doCommand_43 : decode cX9_doCommand 43 = .ok (.ireturn, 1) := dk_172 (dk_at dksX9_doCommand_1 19 rfl rfl)
theorem dX9_doCommand_44 : decode cX9_doCommand 44 = .ok (.aload_n 0, 1) := dk_42 (dk_at dksX9_doCommand_1 20 rfl rfl)
theorem dX9_doCommand_45 : decode cX9_doCommand 45 = .ok (.iload_n 2, 1) := dk_28 (dk_at dksX9_doCommand_1 21 rfl rfl)
theorem dX9_doCommand_46 : decode cX9_doCommand 46 = .ok (.invokevirtual 316, 3) := dk_182 1 60 (dk_at dksX9_doCommand_2 0 rfl rfl)
theorem dX9_doCommand_49 : decode cX9_doCommand 49 = .ok (.ifCond .ne 5, 3) := dk_154 0 5 (dk_at dksX9_doCommand_2 3 rfl rfl)
theorem dX9_doCommand_52 : decode cX9_doCommand 52 = .ok (.iconst (-1), 1) := dk_2 (dk_at dksX9_doCommand_2 6 rfl rfl)
theorem dX9_doCommand_53 : decode cX9_doCommand 53 = .ok (.ireturn, 1) := dk_172 (dk_at dksX9_doCommand_2 7 rfl rfl)
theorem dX9_doCommand_54 : decode cX9_doCommand 54 = .ok (.aload_n 0, 1) := dk_42 (dk_at dksX9_doCommand_2 8 rfl rfl)
theorem dX9_doCommand_55 : decode cX9_doCommand 55 = .ok (.getfield 40, 3) := dk_180 0 40 (dk_at dksX9_doCommand_2 9 rfl rfl)
theorem dX9_doCommand_58 : decode cX9_doCommand 58 = .ok (.iload_n 1, 1) := dk_27 (dk_at dksX9_doCommand_2 12 rfl rfl)
theorem dX9_doCommand_59 : decode cX9_doCommand 59 = .ok (.iaload, 1) := dk_46 (dk_at dksX9_doCommand_2 13 rfl rfl)
theorem dX9_doCommand_60 : decode cX9_doCommand 60 = .ok (.tableswitch 84 0 2 #[28, 35, 54], 28) := by decide +kernel
theorem dX9_doCommand_88 : decode cX9_doCommand 88 = .ok (.aload_n 0, 1) := dk_42 (dk_at dksX9_doCommand_4 0 rfl rfl)
theorem dX9_doCommand_89 : decode cX9_doCommand 89 = .ok (.iload_n 2, 1) := dk_28 (dk_at dksX9_doCommand_4 1 rfl rfl)
theorem dX9_doCommand_90 : decode cX9_doCommand 90 = .ok (.iload_n 3, 1) := dk_29 (dk_at dksX9_doCommand_4 2 rfl rfl)
theorem dX9_doCommand_91 : decode cX9_doCommand 91 = .ok (.invokevirtual 319, 3) := dk_182 1 63 (dk_at dksX9_doCommand_4 3 rfl rfl)
theorem dX9_doCommand_94 : decode cX9_doCommand 94 = .ok (.ireturn, 1) := dk_172 (dk_at dksX9_doCommand_4 6 rfl rfl)
theorem dX9_doCommand_95 : decode cX9_doCommand 95 = .ok (.aload_n 0, 1) := dk_42 (dk_at dksX9_doCommand_4 7 rfl rfl)
theorem dX9_doCommand_96 : decode cX9_doCommand 96 = .ok (.iload_n 3, 1) := dk_29 (dk_at dksX9_doCommand_4 8 rfl rfl)
theorem dX9_doCommand_97 : decode cX9_doCommand 97 = .ok (.invokevirtual 322, 3) := dk_182 1 66 (dk_at dksX9_doCommand_4 9 rfl rfl)
theorem dX9_doCommand_100 : decode cX9_doCommand 100 = .ok (.ifCond .eq 12, 3) := dk_153 0 12 (dk_at dksX9_doCommand_4 12 rfl rfl)
theorem dX9_doCommand_103 : decode cX9_doCommand 103 = .ok (.aload_n 0, 1) := dk_42 (dk_at dksX9_doCommand_4 15 rfl rfl)
theorem dX9_doCommand_104 : decode cX9_doCommand 104 = .ok (.iload_n 2, 1) := dk_28 (dk_at dksX9_doCommand_4 16 rfl rfl)
theorem dX9_doCommand_105 : decode cX9_doCommand 105 = .ok (.iload_n 3, 1) := dk_29 (dk_at dksX9_doCommand_4 17 rfl rfl)
theorem dX9_doCommand_106 : decode cX9_doCommand 106 = .ok (.invokevirtual 325, 3) := dk_182 1 69 (dk_at dksX9_doCommand_4 18 rfl rfl)
theorem dX9_doCommand_109 : decode cX9_doCommand 109 = .ok (.goto 4, 3) := dk_167 0 4 (dk_at dksX9_doCommand_4 21 rfl rfl)
theorem dX9_doCommand_112 : decode cX9_doCommand 112 = .ok (.iconst (-1), 1) := dk_2 (dk_at dksX9_doCommand_5 0 rfl rfl)
theorem dX9_doCommand_113 : decode cX9_doCommand 113 = .ok (.ireturn, 1) := dk_172 (dk_at dksX9_doCommand_5 1 rfl rfl)
theorem dX9_doCommand_114 : decode cX9_doCommand 114 = .ok (.aload_n 0, 1) := dk_42 (dk_at dksX9_doCommand_5 2 rfl rfl)
theorem dX9_doCommand_115 : decode cX9_doCommand 115 = .ok (.iload 4, 2) := dk_21 4 (dk_at dksX9_doCommand_5 3 rfl rfl)
theorem dX9_doCommand_117 : decode cX9_doCommand 117 = .ok (.invokevirtual 316, 3) := dk_182 1 60 (dk_at dksX9_doCommand_5 5 rfl rfl)
theorem dX9_doCommand_120 : decode cX9_doCommand 120 = .ok (.ifCond .eq 22, 3) := dk_153 0 22 (dk_at dksX9_doCommand_5 8 rfl rfl)
theorem dX9_doCommand_123 : decode cX9_doCommand 123 = .ok (.aload_n 0, 1) := dk_42 (dk_at dksX9_doCommand_5 11 rfl rfl)
theorem dX9_doCommand_124 : decode cX9_doCommand 124 = .ok (.iload_n 3, 1) := dk_29 (dk_at dksX9_doCommand_5 12 rfl rfl)
theorem dX9_doCommand_125 : decode cX9_doCommand 125 = .ok (.invokevirtual 322, 3) := dk_182 1 66 (dk_at dksX9_doCommand_5 13 rfl rfl)
theorem dX9_doCommand_128 : decode cX9_doCommand 128 = .ok (.ifCond .eq 14, 3) := dk_153 0 14 (dk_at dksX9_doCommand_5 16 rfl rfl)
theorem dX9_doCommand_131 : decode cX9_doCommand 131 = .ok (.aload_n 0, 1) := dk_42 (dk_at dksX9_doCommand_5 19 rfl rfl)
theorem dX9_doCommand_132 : decode cX9_doCommand 132 = .ok (.iload_n 2, 1) := dk_28 (dk_at dksX9_doCommand_5 20 rfl rfl)
theorem dX9_doCommand_133 : decode cX9_doCommand 133 = .ok (.iload 4, 2) := dk_21 4 (dk_at dksX9_doCommand_5 21 rfl rfl)
theorem dX9_doCommand_135 : decode cX9_doCommand 135 = .ok (.iload_n 3, 1) := dk_29 (dk_at dksX9_doCommand_5 23 rfl rfl)
theorem dX9_doCommand_136 : decode cX9_doCommand 136 = .ok (.invokevirtual 328, 3) := dk_182 1 72 (dk_at dksX9_doCommand_6 0 rfl rfl)
theorem dX9_doCommand_139 : decode cX9_doCommand 139 = .ok (.goto 4, 3) := dk_167 0 4 (dk_at dksX9_doCommand_6 3 rfl rfl)
theorem dX9_doCommand_142 : decode cX9_doCommand 142 = .ok (.iconst (-1), 1) := dk_2 (dk_at dksX9_doCommand_6 6 rfl rfl)
theorem dX9_doCommand_143 : decode cX9_doCommand 143 = .ok (.ireturn, 1) := dk_172 (dk_at dksX9_doCommand_6 7 rfl rfl)
theorem dX9_doCommand_144 : decode cX9_doCommand 144 = .ok (.aload_n 0, 1) := dk_42 (dk_at dksX9_doCommand_6 8 rfl rfl)
theorem dX9_doCommand_145 : decode cX9_doCommand 145 = .ok (.iload_n 3, 1) := dk_29 (dk_at dksX9_doCommand_6 9 rfl rfl)
theorem dX9_doCommand_146 : decode cX9_doCommand 146 = .ok (.invokevirtual 322, 3) := dk_182 1 66 (dk_at dksX9_doCommand_6 10 rfl rfl)
theorem dX9_doCommand_149 : decode cX9_doCommand 149 = .ok (.ifCond .eq 12, 3) := dk_153 0 12 (dk_at dksX9_doCommand_6 13 rfl rfl)
theorem dX9_doCommand_152 : decode cX9_doCommand 152 = .ok (.aload_n 0, 1) := dk_42 (dk_at dksX9_doCommand_6 16 rfl rfl)
theorem dX9_doCommand_153 : decode cX9_doCommand 153 = .ok (.iload_n 2, 1) := dk_28 (dk_at dksX9_doCommand_6 17 rfl rfl)
theorem dX9_doCommand_154 : decode cX9_doCommand 154 = .ok (.iload_n 3, 1) := dk_29 (dk_at dksX9_doCommand_6 18 rfl rfl)
theorem dX9_doCommand_155 : decode cX9_doCommand 155 = .ok (.invokevirtual 332, 3) := dk_182 1 76 (dk_at dksX9_doCommand_6 19 rfl rfl)
theorem dX9_doCommand_158 : decode cX9_doCommand 158 = .ok (.goto 4, 3) := dk_167 0 4 (dk_at dksX9_doCommand_7 0 rfl rfl)
theorem dX9_doCommand_161 : decode cX9_doCommand 161 = .ok (.iconst (-1), 1) := dk_2 (dk_at dksX9_doCommand_7 3 rfl rfl)
theorem dX9_doCommand_162 : decode cX9_doCommand 162 = .ok (.ireturn, 1) := dk_172 (dk_at dksX9_doCommand_7 4 rfl rfl)
abbrev cX9_passIt : ByteArray := prog_16_method_133_code
def yX9_passIt : MethodName := ⟨RX9, "passIt", "(I)I"⟩
def dkwX9_passIt_1 : List UInt8 := [182, 1, 190, 42, 27, 182, 1, 160, 172]
abbrev dktX9_passIt_1 : List UInt8 := dkwX9_passIt_1 ++ []
def dkwX9_passIt_0 : List UInt8 := [42, 180, 0, 7, 16, 7, 46, 27, 96, 17, 39, 15, 164, 0, 10, 42, 16, 8, 182, 1, 187, 172, 42]
abbrev dktX9_passIt_0 : List UInt8 := dkwX9_passIt_0 ++ dktX9_passIt_1
theorem dksX9_passIt_0 : cX9_passIt.data.toList.drop 0 = dktX9_passIt_0 := by decide +kernel
theorem dksX9_passIt_1 : cX9_passIt.data.toList.drop 23 = dktX9_passIt_1 := dk_seg dksX9_passIt_0 23 rfl rfl
theorem dX9_passIt_0 : decode cX9_passIt 0 = .ok (.aload_n 0, 1) := dk_42 (dk_at dksX9_passIt_0 0 rfl rfl)
theorem dX9_passIt_1 : decode cX9_passIt 1 = .ok (.getfield 7, 3) := dk_180 0 7 (dk_at dksX9_passIt_0 1 rfl rfl)
theorem dX9_passIt_4 : decode cX9_passIt 4 = .ok (.bipush 7, 2) := dk_16 7 (dk_at dksX9_passIt_0 4 rfl rfl)
theorem dX9_passIt_6 : decode cX9_passIt 6 = .ok (.iaload, 1) := dk_46 (dk_at dksX9_passIt_0 6 rfl rfl)
theorem dX9_passIt_7 : decode cX9_passIt 7 = .ok (.iload_n 1, 1) := dk_27 (dk_at dksX9_passIt_0 7 rfl rfl)
theorem dX9_passIt_8 : decode cX9_passIt 8 = .ok (.iadd, 1) := dk_96 (dk_at dksX9_passIt_0 8 rfl rfl)
theorem dX9_passIt_9 : decode cX9_passIt 9 = .ok (.sipush 9999, 3) := dk_17 39 15 (dk_at dksX9_passIt_0 9 rfl rfl)
theorem dX9_passIt_12 : decode cX9_passIt 12 = .ok (.if_icmp .le 10, 3) := dk_164 0 10 (dk_at dksX9_passIt_0 12 rfl rfl)
theorem dX9_passIt_15 : decode cX9_passIt 15 = .ok (.aload_n 0, 1) := dk_42 (dk_at dksX9_passIt_0 15 rfl rfl)
theorem dX9_passIt_16 : decode cX9_passIt 16 = .ok (.bipush 8, 2) := dk_16 8 (dk_at dksX9_passIt_0 16 rfl rfl)
theorem dX9_passIt_18 : decode cX9_passIt 18 = .ok (.invokevirtual 443, 3) := dk_182 1 187 (dk_at dksX9_passIt_0 18 rfl rfl)
theorem dX9_passIt_21 : decode cX9_passIt 21 = .ok (.ireturn, 1) := dk_172 (dk_at dksX9_passIt_0 21 rfl rfl)
theorem dX9_passIt_22 : decode cX9_passIt 22 = .ok (.aload_n 0, 1) := dk_42 (dk_at dksX9_passIt_0 22 rfl rfl)
theorem dX9_passIt_23 : decode cX9_passIt 23 = .ok (.invokevirtual 446, 3) := dk_182 1 190 (dk_at dksX9_passIt_1 0 rfl rfl)
theorem dX9_passIt_26 : decode cX9_passIt 26 = .ok (.aload_n 0, 1) := dk_42 (dk_at dksX9_passIt_1 3 rfl rfl)
theorem dX9_passIt_27 : decode cX9_passIt 27 = .ok (.iload_n 1, 1) := dk_27 (dk_at dksX9_passIt_1 4 rfl rfl)
theorem dX9_passIt_28 : decode cX9_passIt 28 = .ok (.invokevirtual 416, 3) := dk_182 1 160 (dk_at dksX9_passIt_1 5 rfl rfl)
theorem dX9_passIt_31 : decode cX9_passIt 31 = .ok (.ireturn, 1) := dk_172 (dk_at dksX9_passIt_1 8 rfl rfl)
abbrev cX9_refuse : ByteArray := prog_16_method_126_code
def yX9_refuse : MethodName := ⟨RX9, "refuse", "(I)I"⟩
def dkwX9_refuse_0 : List UInt8 := [42, 180, 0, 26, 27, 92, 46, 4, 96, 79, 27, 116, 172]
abbrev dktX9_refuse_0 : List UInt8 := dkwX9_refuse_0 ++ []
theorem dksX9_refuse_0 : cX9_refuse.data.toList.drop 0 = dktX9_refuse_0 := by decide +kernel
theorem dX9_refuse_0 : decode cX9_refuse 0 = .ok (.aload_n 0, 1) := dk_42 (dk_at dksX9_refuse_0 0 rfl rfl)
theorem dX9_refuse_1 : decode cX9_refuse 1 = .ok (.getfield 26, 3) := dk_180 0 26 (dk_at dksX9_refuse_0 1 rfl rfl)
theorem dX9_refuse_4 : decode cX9_refuse 4 = .ok (.iload_n 1, 1) := dk_27 (dk_at dksX9_refuse_0 4 rfl rfl)
theorem dX9_refuse_5 : decode cX9_refuse 5 = .ok (.dup2, 1) := dk_92 (dk_at dksX9_refuse_0 5 rfl rfl)
theorem dX9_refuse_6 : decode cX9_refuse 6 = .ok (.iaload, 1) := dk_46 (dk_at dksX9_refuse_0 6 rfl rfl)
theorem dX9_refuse_7 : decode cX9_refuse 7 = .ok (.iconst 1, 1) := dk_4 (dk_at dksX9_refuse_0 7 rfl rfl)
theorem dX9_refuse_8 : decode cX9_refuse 8 = .ok (.iadd, 1) := dk_96 (dk_at dksX9_refuse_0 8 rfl rfl)
theorem dX9_refuse_9 : decode cX9_refuse 9 = .ok (.iastore, 1) := dk_79 (dk_at dksX9_refuse_0 9 rfl rfl)
theorem dX9_refuse_10 : decode cX9_refuse 10 = .ok (.iload_n 1, 1) := dk_27 (dk_at dksX9_refuse_0 10 rfl rfl)
theorem dX9_refuse_11 : decode cX9_refuse 11 = .ok (.ineg, 1) := dk_116 (dk_at dksX9_refuse_0 11 rfl rfl)
theorem dX9_refuse_12 : decode cX9_refuse 12 = .ok (.ireturn, 1) := dk_172 (dk_at dksX9_refuse_0 12 rfl rfl)
abbrev cX9_keep : ByteArray := prog_16_method_127_code
def yX9_keep : MethodName := ⟨RX9, "keep", "()V"⟩
def dkwX9_keep_3 : List UInt8 := [42, 89, 180, 1, 36, 4, 96, 181, 1, 36, 177]
abbrev dktX9_keep_3 : List UInt8 := dkwX9_keep_3 ++ []
def dkwX9_keep_2 : List UInt8 := [100, 181, 1, 36, 42, 180, 0, 7, 3, 42, 180, 0, 16, 17, 0, 216, 42, 180, 1, 36, 104, 184, 1, 26]
abbrev dktX9_keep_2 : List UInt8 := dkwX9_keep_2 ++ dktX9_keep_3
def dkwX9_keep_1 : List UInt8 := [27, 17, 0, 216, 100, 42, 180, 0, 16, 27, 46, 79, 132, 1, 1, 167, 255, 230, 42, 89, 180, 1, 36, 4]
abbrev dktX9_keep_1 : List UInt8 := dkwX9_keep_1 ++ dktX9_keep_2
def dkwX9_keep_0 : List UInt8 := [42, 180, 1, 36, 16, 6, 160, 0, 46, 17, 0, 216, 60, 27, 17, 5, 16, 162, 0, 25, 42, 180, 0, 16]
abbrev dktX9_keep_0 : List UInt8 := dkwX9_keep_0 ++ dktX9_keep_1
theorem dksX9_keep_0 : cX9_keep.data.toList.drop 0 = dktX9_keep_0 := by decide +kernel
theorem dksX9_keep_1 : cX9_keep.data.toList.drop 24 = dktX9_keep_1 := dk_seg dksX9_keep_0 24 rfl rfl
theorem dksX9_keep_2 : cX9_keep.data.toList.drop 48 = dktX9_keep_2 := dk_seg dksX9_keep_1 24 rfl rfl
theorem dksX9_keep_3 : cX9_keep.data.toList.drop 72 = dktX9_keep_3 := dk_seg dksX9_keep_2 24 rfl rfl
theorem dX9_keep_0 : decode cX9_keep 0 = .ok (.aload_n 0, 1) := dk_42 (dk_at dksX9_keep_0 0 rfl rfl)
theorem dX9_keep_1 : decode cX9_keep 1 = .ok (.getfield 292, 3) := dk_180 1 36 (dk_at dksX9_keep_0 1 rfl rfl)
theorem dX9_keep_4 : decode cX9_keep 4 = .ok (.bipush 6, 2) := dk_16 6 (dk_at dksX9_keep_0 4 rfl rfl)
theorem dX9_keep_6 : decode cX9_keep 6 = .ok (.if_icmp .ne 46, 3) := dk_160 0 46 (dk_at dksX9_keep_0 6 rfl rfl)
theorem dX9_keep_9 : decode cX9_keep 9 = .ok (.sipush 216, 3) := dk_17 0 216 (dk_at dksX9_keep_0 9 rfl rfl)
theorem dX9_keep_12 : decode cX9_keep 12 = .ok (.istore_n 1, 1) := dk_60 (dk_at dksX9_keep_0 12 rfl rfl)
theorem dX9_keep_13 : decode cX9_keep 13 = .ok (.iload_n 1, 1) := dk_27 (dk_at dksX9_keep_0 13 rfl rfl)
theorem dX9_keep_14 : decode cX9_keep 14 = .ok (.sipush 1296, 3) := dk_17 5 16 (dk_at dksX9_keep_0 14 rfl rfl)
theorem dX9_keep_17 : decode cX9_keep 17 = .ok (.if_icmp .ge 25, 3) := dk_162 0 25 (dk_at dksX9_keep_0 17 rfl rfl)
theorem dX9_keep_20 : decode cX9_keep 20 = .ok (.aload_n 0, 1) := dk_42 (dk_at dksX9_keep_0 20 rfl rfl)
theorem dX9_keep_21 : decode cX9_keep 21 = .ok (.getfield 16, 3) := dk_180 0 16 (dk_at dksX9_keep_0 21 rfl rfl)
theorem dX9_keep_24 : decode cX9_keep 24 = .ok (.iload_n 1, 1) := dk_27 (dk_at dksX9_keep_1 0 rfl rfl)
theorem dX9_keep_25 : decode cX9_keep 25 = .ok (.sipush 216, 3) := dk_17 0 216 (dk_at dksX9_keep_1 1 rfl rfl)
theorem dX9_keep_28 : decode cX9_keep 28 = .ok (.isub, 1) := dk_100 (dk_at dksX9_keep_1 4 rfl rfl)
theorem dX9_keep_29 : decode cX9_keep 29 = .ok (.aload_n 0, 1) := dk_42 (dk_at dksX9_keep_1 5 rfl rfl)
theorem dX9_keep_30 : decode cX9_keep 30 = .ok (.getfield 16, 3) := dk_180 0 16 (dk_at dksX9_keep_1 6 rfl rfl)
theorem dX9_keep_33 : decode cX9_keep 33 = .ok (.iload_n 1, 1) := dk_27 (dk_at dksX9_keep_1 9 rfl rfl)
theorem dX9_keep_34 : decode cX9_keep 34 = .ok (.iaload, 1) := dk_46 (dk_at dksX9_keep_1 10 rfl rfl)
theorem dX9_keep_35 : decode cX9_keep 35 = .ok (.iastore, 1) := dk_79 (dk_at dksX9_keep_1 11 rfl rfl)
theorem dX9_keep_36 : decode cX9_keep 36 = .ok (.iinc 1 1, 3) := dk_132 1 1 (dk_at dksX9_keep_1 12 rfl rfl)
theorem dX9_keep_39 : decode cX9_keep 39 = .ok (.goto (-26), 3) := dk_167 255 230 (dk_at dksX9_keep_1 15 rfl rfl)
theorem dX9_keep_42 : decode cX9_keep 42 = .ok (.aload_n 0, 1) := dk_42 (dk_at dksX9_keep_1 18 rfl rfl)
theorem dX9_keep_43 : decode cX9_keep 43 = .ok (.dup, 1) := dk_89 (dk_at dksX9_keep_1 19 rfl rfl)
theorem dX9_keep_44 : decode cX9_keep 44 = .ok (.getfield 292, 3) := dk_180 1 36 (dk_at dksX9_keep_1 20 rfl rfl)
theorem dX9_keep_47 : decode cX9_keep 47 = .ok (.iconst 1, 1) := dk_4 (dk_at dksX9_keep_1 23 rfl rfl)
theorem dX9_keep_48 : decode cX9_keep 48 = .ok (.isub, 1) := dk_100 (dk_at dksX9_keep_2 0 rfl rfl)
theorem dX9_keep_49 : decode cX9_keep 49 = .ok (.putfield 292, 3) := dk_181 1 36 (dk_at dksX9_keep_2 1 rfl rfl)
theorem dX9_keep_52 : decode cX9_keep 52 = .ok (.aload_n 0, 1) := dk_42 (dk_at dksX9_keep_2 4 rfl rfl)
theorem dX9_keep_53 : decode cX9_keep 53 = .ok (.getfield 7, 3) := dk_180 0 7 (dk_at dksX9_keep_2 5 rfl rfl)
theorem dX9_keep_56 : decode cX9_keep 56 = .ok (.iconst 0, 1) := dk_3 (dk_at dksX9_keep_2 8 rfl rfl)
theorem dX9_keep_57 : decode cX9_keep 57 = .ok (.aload_n 0, 1) := dk_42 (dk_at dksX9_keep_2 9 rfl rfl)
theorem dX9_keep_58 : decode cX9_keep 58 = .ok (.getfield 16, 3) := dk_180 0 16 (dk_at dksX9_keep_2 10 rfl rfl)
theorem dX9_keep_61 : decode cX9_keep 61 = .ok (.sipush 216, 3) := dk_17 0 216 (dk_at dksX9_keep_2 13 rfl rfl)
theorem dX9_keep_64 : decode cX9_keep 64 = .ok (.aload_n 0, 1) := dk_42 (dk_at dksX9_keep_2 16 rfl rfl)
theorem dX9_keep_65 : decode cX9_keep 65 = .ok (.getfield 292, 3) := dk_180 1 36 (dk_at dksX9_keep_2 17 rfl rfl)
theorem dX9_keep_68 : decode cX9_keep 68 = .ok (.imul, 1) := dk_104 (dk_at dksX9_keep_2 20 rfl rfl)
theorem dX9_keep_69 : decode cX9_keep 69 = .ok (.invokestatic 282, 3) := dk_184 1 26 (dk_at dksX9_keep_2 21 rfl rfl)
theorem dX9_keep_72 : decode cX9_keep 72 = .ok (.aload_n 0, 1) := dk_42 (dk_at dksX9_keep_3 0 rfl rfl)
theorem dX9_keep_73 : decode cX9_keep 73 = .ok (.dup, 1) := dk_89 (dk_at dksX9_keep_3 1 rfl rfl)
theorem dX9_keep_74 : decode cX9_keep 74 = .ok (.getfield 292, 3) := dk_180 1 36 (dk_at dksX9_keep_3 2 rfl rfl)
theorem dX9_keep_77 : decode cX9_keep 77 = .ok (.iconst 1, 1) := dk_4 (dk_at dksX9_keep_3 5 rfl rfl)
theorem dX9_keep_78 : decode cX9_keep 78 = .ok (.iadd, 1) := dk_96 (dk_at dksX9_keep_3 6 rfl rfl)
theorem dX9_keep_79 : decode cX9_keep 79 = .ok (.putfield 292, 3) := dk_181 1 36 (dk_at dksX9_keep_3 7 rfl rfl)
theorem dX9_keep_82 : decode cX9_keep 82 = .ok (.return_, 1) := dk_177 (dk_at dksX9_keep_3 10 rfl rfl)
abbrev cX9_passMany : ByteArray := prog_16_method_45_code
def yX9_passMany : MethodName := ⟨RX9, "passMany", "(I)I"⟩
def dkwX9_passMany_1 : List UInt8 := [167, 255, 244, 42, 180, 0, 7, 16, 13, 46, 28, 100, 172]
abbrev dktX9_passMany_1 : List UInt8 := dkwX9_passMany_1 ++ []
def dkwX9_passMany_0 : List UInt8 := [42, 180, 0, 7, 16, 13, 46, 61, 3, 62, 29, 27, 162, 0, 13, 42, 182, 0, 175, 132, 3, 1]
abbrev dktX9_passMany_0 : List UInt8 := dkwX9_passMany_0 ++ dktX9_passMany_1
theorem dksX9_passMany_0 : cX9_passMany.data.toList.drop 0 = dktX9_passMany_0 := by decide +kernel
theorem dksX9_passMany_1 : cX9_passMany.data.toList.drop 22 = dktX9_passMany_1 := dk_seg dksX9_passMany_0 22 rfl rfl
theorem dX9_passMany_0 : decode cX9_passMany 0 = .ok (.aload_n 0, 1) := dk_42 (dk_at dksX9_passMany_0 0 rfl rfl)
theorem dX9_passMany_1 : decode cX9_passMany 1 = .ok (.getfield 7, 3) := dk_180 0 7 (dk_at dksX9_passMany_0 1 rfl rfl)
theorem dX9_passMany_4 : decode cX9_passMany 4 = .ok (.bipush 13, 2) := dk_16 13 (dk_at dksX9_passMany_0 4 rfl rfl)
theorem dX9_passMany_6 : decode cX9_passMany 6 = .ok (.iaload, 1) := dk_46 (dk_at dksX9_passMany_0 6 rfl rfl)
theorem dX9_passMany_7 : decode cX9_passMany 7 = .ok (.istore_n 2, 1) := dk_61 (dk_at dksX9_passMany_0 7 rfl rfl)
theorem dX9_passMany_8 : decode cX9_passMany 8 = .ok (.iconst 0, 1) := dk_3 (dk_at dksX9_passMany_0 8 rfl rfl)
theorem dX9_passMany_9 : decode cX9_passMany 9 = .ok (.istore_n 3, 1) := dk_62 (dk_at dksX9_passMany_0 9 rfl rfl)
theorem dX9_passMany_10 : decode cX9_passMany 10 = .ok (.iload_n 3, 1) := dk_29 (dk_at dksX9_passMany_0 10 rfl rfl)
theorem dX9_passMany_11 : decode cX9_passMany 11 = .ok (.iload_n 1, 1) := dk_27 (dk_at dksX9_passMany_0 11 rfl rfl)
theorem dX9_passMany_12 : decode cX9_passMany 12 = .ok (.if_icmp .ge 13, 3) := dk_162 0 13 (dk_at dksX9_passMany_0 12 rfl rfl)
theorem dX9_passMany_15 : decode cX9_passMany 15 = .ok (.aload_n 0, 1) := dk_42 (dk_at dksX9_passMany_0 15 rfl rfl)
theorem dX9_passMany_16 : decode cX9_passMany 16 = .ok (.invokevirtual 175, 3) := dk_182 0 175 (dk_at dksX9_passMany_0 16 rfl rfl)
theorem dX9_passMany_19 : decode cX9_passMany 19 = .ok (.iinc 3 1, 3) := dk_132 3 1 (dk_at dksX9_passMany_0 19 rfl rfl)
theorem dX9_passMany_22 : decode cX9_passMany 22 = .ok (.goto (-12), 3) := dk_167 255 244 (dk_at dksX9_passMany_1 0 rfl rfl)
theorem dX9_passMany_25 : decode cX9_passMany 25 = .ok (.aload_n 0, 1) := dk_42 (dk_at dksX9_passMany_1 3 rfl rfl)
theorem dX9_passMany_26 : decode cX9_passMany 26 = .ok (.getfield 7, 3) := dk_180 0 7 (dk_at dksX9_passMany_1 4 rfl rfl)
theorem dX9_passMany_29 : decode cX9_passMany 29 = .ok (.bipush 13, 2) := dk_16 13 (dk_at dksX9_passMany_1 7 rfl rfl)
theorem dX9_passMany_31 : decode cX9_passMany 31 = .ok (.iaload, 1) := dk_46 (dk_at dksX9_passMany_1 9 rfl rfl)
theorem dX9_passMany_32 : decode cX9_passMany 32 = .ok (.iload_n 2, 1) := dk_28 (dk_at dksX9_passMany_1 10 rfl rfl)
theorem dX9_passMany_33 : decode cX9_passMany 33 = .ok (.isub, 1) := dk_100 (dk_at dksX9_passMany_1 11 rfl rfl)
theorem dX9_passMany_34 : decode cX9_passMany 34 = .ok (.ireturn, 1) := dk_172 (dk_at dksX9_passMany_1 12 rfl rfl)
abbrev cX9_passOne : ByteArray := prog_16_method_44_code
def yX9_passOne : MethodName := ⟨RX9, "passOne", "()V"⟩
def dkwX9_passOne_2 : List UInt8 := [132, 1, 1, 167, 255, 217, 177]
abbrev dktX9_passOne_2 : List UInt8 := dkwX9_passOne_2 ++ []
def dkwX9_passOne_1 : List UInt8 := [182, 0, 70, 42, 180, 0, 29, 42, 27, 3, 182, 0, 80, 51, 153, 0, 8, 42, 27, 182, 0, 172]
abbrev dktX9_passOne_1 : List UInt8 := dkwX9_passOne_1 ++ dktX9_passOne_2
def dkwX9_passOne_0 : List UInt8 := [42, 182, 0, 169, 42, 182, 0, 145, 3, 60, 27, 42, 180, 0, 7, 8, 46, 162, 0, 35, 42, 27, 5, 3]
abbrev dktX9_passOne_0 : List UInt8 := dkwX9_passOne_0 ++ dktX9_passOne_1
theorem dksX9_passOne_0 : cX9_passOne.data.toList.drop 0 = dktX9_passOne_0 := by decide +kernel
theorem dksX9_passOne_1 : cX9_passOne.data.toList.drop 24 = dktX9_passOne_1 := dk_seg dksX9_passOne_0 24 rfl rfl
theorem dksX9_passOne_2 : cX9_passOne.data.toList.drop 46 = dktX9_passOne_2 := dk_seg dksX9_passOne_1 22 rfl rfl
theorem dX9_passOne_0 : decode cX9_passOne 0 = .ok (.aload_n 0, 1) := dk_42 (dk_at dksX9_passOne_0 0 rfl rfl)
theorem dX9_passOne_1 : decode cX9_passOne 1 = .ok (.invokevirtual 169, 3) := dk_182 0 169 (dk_at dksX9_passOne_0 1 rfl rfl)
theorem dX9_passOne_4 : decode cX9_passOne 4 = .ok (.aload_n 0, 1) := dk_42 (dk_at dksX9_passOne_0 4 rfl rfl)
theorem dX9_passOne_5 : decode cX9_passOne 5 = .ok (.invokevirtual 145, 3) := dk_182 0 145 (dk_at dksX9_passOne_0 5 rfl rfl)
theorem dX9_passOne_8 : decode cX9_passOne 8 = .ok (.iconst 0, 1) := dk_3 (dk_at dksX9_passOne_0 8 rfl rfl)
theorem dX9_passOne_9 : decode cX9_passOne 9 = .ok (.istore_n 1, 1) := dk_60 (dk_at dksX9_passOne_0 9 rfl rfl)
theorem dX9_passOne_10 : decode cX9_passOne 10 = .ok (.iload_n 1, 1) := dk_27 (dk_at dksX9_passOne_0 10 rfl rfl)
theorem dX9_passOne_11 : decode cX9_passOne 11 = .ok (.aload_n 0, 1) := dk_42 (dk_at dksX9_passOne_0 11 rfl rfl)
theorem dX9_passOne_12 : decode cX9_passOne 12 = .ok (.getfield 7, 3) := dk_180 0 7 (dk_at dksX9_passOne_0 12 rfl rfl)
theorem dX9_passOne_15 : decode cX9_passOne 15 = .ok (.iconst 5, 1) := dk_8 (dk_at dksX9_passOne_0 15 rfl rfl)
theorem dX9_passOne_16 : decode cX9_passOne 16 = .ok (.iaload, 1) := dk_46 (dk_at dksX9_passOne_0 16 rfl rfl)
theorem dX9_passOne_17 : decode cX9_passOne 17 = .ok (.if_icmp .ge 35, 3) := dk_162 0 35 (dk_at dksX9_passOne_0 17 rfl rfl)
theorem dX9_passOne_20 : decode cX9_passOne 20 = .ok (.aload_n 0, 1) := dk_42 (dk_at dksX9_passOne_0 20 rfl rfl)
theorem dX9_passOne_21 : decode cX9_passOne 21 = .ok (.iload_n 1, 1) := dk_27 (dk_at dksX9_passOne_0 21 rfl rfl)
theorem dX9_passOne_22 : decode cX9_passOne 22 = .ok (.iconst 2, 1) := dk_5 (dk_at dksX9_passOne_0 22 rfl rfl)
theorem dX9_passOne_23 : decode cX9_passOne 23 = .ok (.iconst 0, 1) := dk_3 (dk_at dksX9_passOne_0 23 rfl rfl)
theorem dX9_passOne_24 : decode cX9_passOne 24 = .ok (.invokevirtual 70, 3) := dk_182 0 70 (dk_at dksX9_passOne_1 0 rfl rfl)
theorem dX9_passOne_27 : decode cX9_passOne 27 = .ok (.aload_n 0, 1) := dk_42 (dk_at dksX9_passOne_1 3 rfl rfl)
theorem dX9_passOne_28 : decode cX9_passOne 28 = .ok (.getfield 29, 3) := dk_180 0 29 (dk_at dksX9_passOne_1 4 rfl rfl)
theorem dX9_passOne_31 : decode cX9_passOne 31 = .ok (.aload_n 0, 1) := dk_42 (dk_at dksX9_passOne_1 7 rfl rfl)
theorem dX9_passOne_32 : decode cX9_passOne 32 = .ok (.iload_n 1, 1) := dk_27 (dk_at dksX9_passOne_1 8 rfl rfl)
theorem dX9_passOne_33 : decode cX9_passOne 33 = .ok (.iconst 0, 1) := dk_3 (dk_at dksX9_passOne_1 9 rfl rfl)
theorem dX9_passOne_34 : decode cX9_passOne 34 = .ok (.invokevirtual 80, 3) := dk_182 0 80 (dk_at dksX9_passOne_1 10 rfl rfl)
theorem dX9_passOne_37 : decode cX9_passOne 37 = .ok (.baload, 1) := dk_51 (dk_at dksX9_passOne_1 13 rfl rfl)
theorem dX9_passOne_38 : decode cX9_passOne 38 = .ok (.ifCond .eq 8, 3) := dk_153 0 8 (dk_at dksX9_passOne_1 14 rfl rfl)
theorem dX9_passOne_41 : decode cX9_passOne 41 = .ok (.aload_n 0, 1) := dk_42 (dk_at dksX9_passOne_1 17 rfl rfl)
theorem dX9_passOne_42 : decode cX9_passOne 42 = .ok (.iload_n 1, 1) := dk_27 (dk_at dksX9_passOne_1 18 rfl rfl)
theorem dX9_passOne_43 : decode cX9_passOne 43 = .ok (.invokevirtual 172, 3) := dk_182 0 172 (dk_at dksX9_passOne_1 19 rfl rfl)
theorem dX9_passOne_46 : decode cX9_passOne 46 = .ok (.iinc 1 1, 3) := dk_132 1 1 (dk_at dksX9_passOne_2 0 rfl rfl)
theorem dX9_passOne_49 : decode cX9_passOne 49 = .ok (.goto (-39), 3) := dk_167 255 217 (dk_at dksX9_passOne_2 3 rfl rfl)
theorem dX9_passOne_52 : decode cX9_passOne 52 = .ok (.return_, 1) := dk_177 (dk_at dksX9_passOne_2 6 rfl rfl)
abbrev cX9_passAround : ByteArray := prog_16_method_43_code
def yX9_passAround : MethodName := ⟨RX9, "passAround", "()V"⟩
def dkwX9_passAround_0 : List UInt8 := [42, 180, 0, 7, 16, 7, 92, 46, 4, 96, 79, 42, 182, 0, 163, 42, 182, 0, 166, 177]
abbrev dktX9_passAround_0 : List UInt8 := dkwX9_passAround_0 ++ []
theorem dksX9_passAround_0 : cX9_passAround.data.toList.drop 0 = dktX9_passAround_0 := by decide +kernel
theorem dX9_passAround_0 : decode cX9_passAround 0 = .ok (.aload_n 0, 1) := dk_42 (dk_at dksX9_passAround_0 0 rfl rfl)
theorem dX9_passAround_1 : decode cX9_passAround 1 = .ok (.getfield 7, 3) := dk_180 0 7 (dk_at dksX9_passAround_0 1 rfl rfl)
theorem dX9_passAround_4 : decode cX9_passAround 4 = .ok (.bipush 7, 2) := dk_16 7 (dk_at dksX9_passAround_0 4 rfl rfl)
theorem dX9_passAround_6 : decode cX9_passAround 6 = .ok (.dup2, 1) := dk_92 (dk_at dksX9_passAround_0 6 rfl rfl)
theorem dX9_passAround_7 : decode cX9_passAround 7 = .ok (.iaload, 1) := dk_46 (dk_at dksX9_passAround_0 7 rfl rfl)
theorem dX9_passAround_8 : decode cX9_passAround 8 = .ok (.iconst 1, 1) := dk_4 (dk_at dksX9_passAround_0 8 rfl rfl)
theorem dX9_passAround_9 : decode cX9_passAround 9 = .ok (.iadd, 1) := dk_96 (dk_at dksX9_passAround_0 9 rfl rfl)
theorem dX9_passAround_10 : decode cX9_passAround 10 = .ok (.iastore, 1) := dk_79 (dk_at dksX9_passAround_0 10 rfl rfl)
theorem dX9_passAround_11 : decode cX9_passAround 11 = .ok (.aload_n 0, 1) := dk_42 (dk_at dksX9_passAround_0 11 rfl rfl)
theorem dX9_passAround_12 : decode cX9_passAround 12 = .ok (.invokevirtual 163, 3) := dk_182 0 163 (dk_at dksX9_passAround_0 12 rfl rfl)
theorem dX9_passAround_15 : decode cX9_passAround 15 = .ok (.aload_n 0, 1) := dk_42 (dk_at dksX9_passAround_0 15 rfl rfl)
theorem dX9_passAround_16 : decode cX9_passAround 16 = .ok (.invokevirtual 166, 3) := dk_182 0 166 (dk_at dksX9_passAround_0 16 rfl rfl)
theorem dX9_passAround_19 : decode cX9_passAround 19 = .ok (.return_, 1) := dk_177 (dk_at dksX9_passAround_0 19 rfl rfl)
abbrev cX9_driftAll : ByteArray := prog_16_method_39_code
def yX9_driftAll : MethodName := ⟨RX9, "driftAll", "()V"⟩
def dkwX9_driftAll_2 : List UInt8 := [132, 1, 1, 167, 255, 207, 177]
abbrev dktX9_driftAll_2 : List UInt8 := dkwX9_driftAll_2 ++ []
def dkwX9_driftAll_1 : List UInt8 := [42, 180, 0, 7, 16, 96, 7, 27, 104, 96, 3, 96, 42, 42, 27, 3, 182, 0, 104, 28, 182, 0, 148, 79]
abbrev dktX9_driftAll_1 : List UInt8 := dkwX9_driftAll_1 ++ dktX9_driftAll_2
def dkwX9_driftAll_0 : List UInt8 := [3, 60, 27, 42, 180, 0, 7, 6, 46, 162, 0, 45, 42, 27, 6, 182, 0, 104, 61, 28, 7, 159, 0, 27]
abbrev dktX9_driftAll_0 : List UInt8 := dkwX9_driftAll_0 ++ dktX9_driftAll_1
theorem dksX9_driftAll_0 : cX9_driftAll.data.toList.drop 0 = dktX9_driftAll_0 := by decide +kernel
theorem dksX9_driftAll_1 : cX9_driftAll.data.toList.drop 24 = dktX9_driftAll_1 := dk_seg dksX9_driftAll_0 24 rfl rfl
theorem dksX9_driftAll_2 : cX9_driftAll.data.toList.drop 48 = dktX9_driftAll_2 := dk_seg dksX9_driftAll_1 24 rfl rfl
theorem dX9_driftAll_0 : decode cX9_driftAll 0 = .ok (.iconst 0, 1) := dk_3 (dk_at dksX9_driftAll_0 0 rfl rfl)
theorem dX9_driftAll_1 : decode cX9_driftAll 1 = .ok (.istore_n 1, 1) := dk_60 (dk_at dksX9_driftAll_0 1 rfl rfl)
theorem dX9_driftAll_2 : decode cX9_driftAll 2 = .ok (.iload_n 1, 1) := dk_27 (dk_at dksX9_driftAll_0 2 rfl rfl)
theorem dX9_driftAll_3 : decode cX9_driftAll 3 = .ok (.aload_n 0, 1) := dk_42 (dk_at dksX9_driftAll_0 3 rfl rfl)
theorem dX9_driftAll_4 : decode cX9_driftAll 4 = .ok (.getfield 7, 3) := dk_180 0 7 (dk_at dksX9_driftAll_0 4 rfl rfl)
theorem dX9_driftAll_7 : decode cX9_driftAll 7 = .ok (.iconst 3, 1) := dk_6 (dk_at dksX9_driftAll_0 7 rfl rfl)
theorem dX9_driftAll_8 : decode cX9_driftAll 8 = .ok (.iaload, 1) := dk_46 (dk_at dksX9_driftAll_0 8 rfl rfl)
theorem dX9_driftAll_9 : decode cX9_driftAll 9 = .ok (.if_icmp .ge 45, 3) := dk_162 0 45 (dk_at dksX9_driftAll_0 9 rfl rfl)
theorem dX9_driftAll_12 : decode cX9_driftAll 12 = .ok (.aload_n 0, 1) := dk_42 (dk_at dksX9_driftAll_0 12 rfl rfl)
theorem dX9_driftAll_13 : decode cX9_driftAll 13 = .ok (.iload_n 1, 1) := dk_27 (dk_at dksX9_driftAll_0 13 rfl rfl)
theorem dX9_driftAll_14 : decode cX9_driftAll 14 = .ok (.iconst 3, 1) := dk_6 (dk_at dksX9_driftAll_0 14 rfl rfl)
theorem dX9_driftAll_15 : decode cX9_driftAll 15 = .ok (.invokevirtual 104, 3) := dk_182 0 104 (dk_at dksX9_driftAll_0 15 rfl rfl)
theorem dX9_driftAll_18 : decode cX9_driftAll 18 = .ok (.istore_n 2, 1) := dk_61 (dk_at dksX9_driftAll_0 18 rfl rfl)
theorem dX9_driftAll_19 : decode cX9_driftAll 19 = .ok (.iload_n 2, 1) := dk_28 (dk_at dksX9_driftAll_0 19 rfl rfl)
theorem dX9_driftAll_20 : decode cX9_driftAll 20 = .ok (.iconst 4, 1) := dk_7 (dk_at dksX9_driftAll_0 20 rfl rfl)
theorem dX9_driftAll_21 : decode cX9_driftAll 21 = .ok (.if_icmp .eq 27, 3) := dk_159 0 27 (dk_at dksX9_driftAll_0 21 rfl rfl)
theorem dX9_driftAll_24 : decode cX9_driftAll 24 = .ok (.aload_n 0, 1) := dk_42 (dk_at dksX9_driftAll_1 0 rfl rfl)
theorem dX9_driftAll_25 : decode cX9_driftAll 25 = .ok (.getfield 7, 3) := dk_180 0 7 (dk_at dksX9_driftAll_1 1 rfl rfl)
theorem dX9_driftAll_28 : decode cX9_driftAll 28 = .ok (.bipush 96, 2) := dk_16 96 (dk_at dksX9_driftAll_1 4 rfl rfl)
theorem dX9_driftAll_30 : decode cX9_driftAll 30 = .ok (.iconst 4, 1) := dk_7 (dk_at dksX9_driftAll_1 6 rfl rfl)
theorem dX9_driftAll_31 : decode cX9_driftAll 31 = .ok (.iload_n 1, 1) := dk_27 (dk_at dksX9_driftAll_1 7 rfl rfl)
theorem dX9_driftAll_32 : decode cX9_driftAll 32 = .ok (.imul, 1) := dk_104 (dk_at dksX9_driftAll_1 8 rfl rfl)
theorem dX9_driftAll_33 : decode cX9_driftAll 33 = .ok (.iadd, 1) := dk_96 (dk_at dksX9_driftAll_1 9 rfl rfl)
theorem dX9_driftAll_34 : decode cX9_driftAll 34 = .ok (.iconst 0, 1) := dk_3 (dk_at dksX9_driftAll_1 10 rfl rfl)
theorem dX9_driftAll_35 : decode cX9_driftAll 35 = .ok (.iadd, 1) := dk_96 (dk_at dksX9_driftAll_1 11 rfl rfl)
theorem dX9_driftAll_36 : decode cX9_driftAll 36 = .ok (.aload_n 0, 1) := dk_42 (dk_at dksX9_driftAll_1 12 rfl rfl)
theorem dX9_driftAll_37 : decode cX9_driftAll 37 = .ok (.aload_n 0, 1) := dk_42 (dk_at dksX9_driftAll_1 13 rfl rfl)
theorem dX9_driftAll_38 : decode cX9_driftAll 38 = .ok (.iload_n 1, 1) := dk_27 (dk_at dksX9_driftAll_1 14 rfl rfl)
theorem dX9_driftAll_39 : decode cX9_driftAll 39 = .ok (.iconst 0, 1) := dk_3 (dk_at dksX9_driftAll_1 15 rfl rfl)
theorem dX9_driftAll_40 : decode cX9_driftAll 40 = .ok (.invokevirtual 104, 3) := dk_182 0 104 (dk_at dksX9_driftAll_1 16 rfl rfl)
theorem dX9_driftAll_43 : decode cX9_driftAll 43 = .ok (.iload_n 2, 1) := dk_28 (dk_at dksX9_driftAll_1 19 rfl rfl)
theorem dX9_driftAll_44 : decode cX9_driftAll 44 = .ok (.invokevirtual 148, 3) := dk_182 0 148 (dk_at dksX9_driftAll_1 20 rfl rfl)
theorem dX9_driftAll_47 : decode cX9_driftAll 47 = .ok (.iastore, 1) := dk_79 (dk_at dksX9_driftAll_1 23 rfl rfl)
theorem dX9_driftAll_48 : decode cX9_driftAll 48 = .ok (.iinc 1 1, 3) := dk_132 1 1 (dk_at dksX9_driftAll_2 0 rfl rfl)
theorem dX9_driftAll_51 : decode cX9_driftAll 51 = .ok (.goto (-49), 3) := dk_167 255 207 (dk_at dksX9_driftAll_2 3 rfl rfl)
theorem dX9_driftAll_54 : decode cX9_driftAll 54 = .ok (.return_, 1) := dk_177 (dk_at dksX9_driftAll_2 6 rfl rfl)
abbrev cX9_ofBank : ByteArray := prog_16_method_11_code
def yX9_ofBank : MethodName := ⟨RX9, "ofBank", "(II)I"⟩
def dkwX9_ofBank_0 : List UInt8 := [42, 180, 0, 7, 16, 96, 7, 27, 104, 96, 28, 96, 46, 172]
abbrev dktX9_ofBank_0 : List UInt8 := dkwX9_ofBank_0 ++ []
theorem dksX9_ofBank_0 : cX9_ofBank.data.toList.drop 0 = dktX9_ofBank_0 := by decide +kernel
theorem dX9_ofBank_0 : decode cX9_ofBank 0 = .ok (.aload_n 0, 1) := dk_42 (dk_at dksX9_ofBank_0 0 rfl rfl)
theorem dX9_ofBank_1 : decode cX9_ofBank 1 = .ok (.getfield 7, 3) := dk_180 0 7 (dk_at dksX9_ofBank_0 1 rfl rfl)
theorem dX9_ofBank_4 : decode cX9_ofBank 4 = .ok (.bipush 96, 2) := dk_16 96 (dk_at dksX9_ofBank_0 4 rfl rfl)
theorem dX9_ofBank_6 : decode cX9_ofBank 6 = .ok (.iconst 4, 1) := dk_7 (dk_at dksX9_ofBank_0 6 rfl rfl)
theorem dX9_ofBank_7 : decode cX9_ofBank 7 = .ok (.iload_n 1, 1) := dk_27 (dk_at dksX9_ofBank_0 7 rfl rfl)
theorem dX9_ofBank_8 : decode cX9_ofBank 8 = .ok (.imul, 1) := dk_104 (dk_at dksX9_ofBank_0 8 rfl rfl)
theorem dX9_ofBank_9 : decode cX9_ofBank 9 = .ok (.iadd, 1) := dk_96 (dk_at dksX9_ofBank_0 9 rfl rfl)
theorem dX9_ofBank_10 : decode cX9_ofBank 10 = .ok (.iload_n 2, 1) := dk_28 (dk_at dksX9_ofBank_0 10 rfl rfl)
theorem dX9_ofBank_11 : decode cX9_ofBank 11 = .ok (.iadd, 1) := dk_96 (dk_at dksX9_ofBank_0 11 rfl rfl)
theorem dX9_ofBank_12 : decode cX9_ofBank 12 = .ok (.iaload, 1) := dk_46 (dk_at dksX9_ofBank_0 12 rfl rfl)
theorem dX9_ofBank_13 : decode cX9_ofBank 13 = .ok (.ireturn, 1) := dk_172 (dk_at dksX9_ofBank_0 13 rfl rfl)
abbrev cX9_nextAround : ByteArray := prog_16_method_31_code
def yX9_nextAround : MethodName := ⟨RX9, "nextAround", "(II)I"⟩
def dkwX9_nextAround_2 : List UInt8 := [112, 54, 4, 42, 180, 0, 7, 3, 46, 21, 4, 104, 29, 96, 172]
abbrev dktX9_nextAround_2 : List UInt8 := dkwX9_nextAround_2 ++ []
def dkwX9_nextAround_1 : List UInt8 := [62, 42, 27, 182, 0, 101, 28, 184, 0, 116, 96, 42, 180, 0, 7, 4, 46, 96, 42, 180, 0, 7, 4, 46]
abbrev dktX9_nextAround_1 : List UInt8 := dkwX9_nextAround_1 ++ dktX9_nextAround_2
def dkwX9_nextAround_0 : List UInt8 := [42, 27, 182, 0, 92, 28, 184, 0, 113, 96, 42, 180, 0, 7, 3, 46, 96, 42, 180, 0, 7, 3, 46, 112]
abbrev dktX9_nextAround_0 : List UInt8 := dkwX9_nextAround_0 ++ dktX9_nextAround_1
theorem dksX9_nextAround_0 : cX9_nextAround.data.toList.drop 0 = dktX9_nextAround_0 := by decide +kernel
theorem dksX9_nextAround_1 : cX9_nextAround.data.toList.drop 24 = dktX9_nextAround_1 := dk_seg dksX9_nextAround_0 24 rfl rfl
theorem dksX9_nextAround_2 : cX9_nextAround.data.toList.drop 48 = dktX9_nextAround_2 := dk_seg dksX9_nextAround_1 24 rfl rfl
theorem dX9_nextAround_0 : decode cX9_nextAround 0 = .ok (.aload_n 0, 1) := dk_42 (dk_at dksX9_nextAround_0 0 rfl rfl)
theorem dX9_nextAround_1 : decode cX9_nextAround 1 = .ok (.iload_n 1, 1) := dk_27 (dk_at dksX9_nextAround_0 1 rfl rfl)
theorem dX9_nextAround_2 : decode cX9_nextAround 2 = .ok (.invokevirtual 92, 3) := dk_182 0 92 (dk_at dksX9_nextAround_0 2 rfl rfl)
theorem dX9_nextAround_5 : decode cX9_nextAround 5 = .ok (.iload_n 2, 1) := dk_28 (dk_at dksX9_nextAround_0 5 rfl rfl)
theorem dX9_nextAround_6 : decode cX9_nextAround 6 = .ok (.invokestatic 113, 3) := dk_184 0 113 (dk_at dksX9_nextAround_0 6 rfl rfl)
theorem dX9_nextAround_9 : decode cX9_nextAround 9 = .ok (.iadd, 1) := dk_96 (dk_at dksX9_nextAround_0 9 rfl rfl)
theorem dX9_nextAround_10 : decode cX9_nextAround 10 = .ok (.aload_n 0, 1) := dk_42 (dk_at dksX9_nextAround_0 10 rfl rfl)
theorem dX9_nextAround_11 : decode cX9_nextAround 11 = .ok (.getfield 7, 3) := dk_180 0 7 (dk_at dksX9_nextAround_0 11 rfl rfl)
theorem dX9_nextAround_14 : decode cX9_nextAround 14 = .ok (.iconst 0, 1) := dk_3 (dk_at dksX9_nextAround_0 14 rfl rfl)
theorem dX9_nextAround_15 : decode cX9_nextAround 15 = .ok (.iaload, 1) := dk_46 (dk_at dksX9_nextAround_0 15 rfl rfl)
theorem dX9_nextAround_16 : decode cX9_nextAround 16 = .ok (.iadd, 1) := dk_96 (dk_at dksX9_nextAround_0 16 rfl rfl)
theorem dX9_nextAround_17 : decode cX9_nextAround 17 = .ok (.aload_n 0, 1) := dk_42 (dk_at dksX9_nextAround_0 17 rfl rfl)
theorem dX9_nextAround_18 : decode cX9_nextAround 18 = .ok (.getfield 7, 3) := dk_180 0 7 (dk_at dksX9_nextAround_0 18 rfl rfl)
theorem dX9_nextAround_21 : decode cX9_nextAround 21 = .ok (.iconst 0, 1) := dk_3 (dk_at dksX9_nextAround_0 21 rfl rfl)
theorem dX9_nextAround_22 : decode cX9_nextAround 22 = .ok (.iaload, 1) := dk_46 (dk_at dksX9_nextAround_0 22 rfl rfl)
theorem dX9_nextAround_23 : decode cX9_nextAround 23 = .ok (.irem, 1) := dk_112 (dk_at dksX9_nextAround_0 23 rfl rfl)
theorem dX9_nextAround_24 : decode cX9_nextAround 24 = .ok (.istore_n 3, 1) := dk_62 (dk_at dksX9_nextAround_1 0 rfl rfl)
theorem dX9_nextAround_25 : decode cX9_nextAround 25 = .ok (.aload_n 0, 1) := dk_42 (dk_at dksX9_nextAround_1 1 rfl rfl)
theorem dX9_nextAround_26 : decode cX9_nextAround 26 = .ok (.iload_n 1, 1) := dk_27 (dk_at dksX9_nextAround_1 2 rfl rfl)
theorem dX9_nextAround_27 : decode cX9_nextAround 27 = .ok (.invokevirtual 101, 3) := dk_182 0 101 (dk_at dksX9_nextAround_1 3 rfl rfl)
theorem dX9_nextAround_30 : decode cX9_nextAround 30 = .ok (.iload_n 2, 1) := dk_28 (dk_at dksX9_nextAround_1 6 rfl rfl)
theorem dX9_nextAround_31 : decode cX9_nextAround 31 = .ok (.invokestatic 116, 3) := dk_184 0 116 (dk_at dksX9_nextAround_1 7 rfl rfl)
theorem dX9_nextAround_34 : decode cX9_nextAround 34 = .ok (.iadd, 1) := dk_96 (dk_at dksX9_nextAround_1 10 rfl rfl)
theorem dX9_nextAround_35 : decode cX9_nextAround 35 = .ok (.aload_n 0, 1) := dk_42 (dk_at dksX9_nextAround_1 11 rfl rfl)
theorem dX9_nextAround_36 : decode cX9_nextAround 36 = .ok (.getfield 7, 3) := dk_180 0 7 (dk_at dksX9_nextAround_1 12 rfl rfl)
theorem dX9_nextAround_39 : decode cX9_nextAround 39 = .ok (.iconst 1, 1) := dk_4 (dk_at dksX9_nextAround_1 15 rfl rfl)
theorem dX9_nextAround_40 : decode cX9_nextAround 40 = .ok (.iaload, 1) := dk_46 (dk_at dksX9_nextAround_1 16 rfl rfl)
theorem dX9_nextAround_41 : decode cX9_nextAround 41 = .ok (.iadd, 1) := dk_96 (dk_at dksX9_nextAround_1 17 rfl rfl)
theorem dX9_nextAround_42 : decode cX9_nextAround 42 = .ok (.aload_n 0, 1) := dk_42 (dk_at dksX9_nextAround_1 18 rfl rfl)
theorem dX9_nextAround_43 : decode cX9_nextAround 43 = .ok (.getfield 7, 3) := dk_180 0 7 (dk_at dksX9_nextAround_1 19 rfl rfl)
theorem dX9_nextAround_46 : decode cX9_nextAround 46 = .ok (.iconst 1, 1) := dk_4 (dk_at dksX9_nextAround_1 22 rfl rfl)
theorem dX9_nextAround_47 : decode cX9_nextAround 47 = .ok (.iaload, 1) := dk_46 (dk_at dksX9_nextAround_1 23 rfl rfl)
theorem dX9_nextAround_48 : decode cX9_nextAround 48 = .ok (.irem, 1) := dk_112 (dk_at dksX9_nextAround_2 0 rfl rfl)
theorem dX9_nextAround_49 : decode cX9_nextAround 49 = .ok (.istore 4, 2) := dk_54 4 (dk_at dksX9_nextAround_2 1 rfl rfl)
theorem dX9_nextAround_51 : decode cX9_nextAround 51 = .ok (.aload_n 0, 1) := dk_42 (dk_at dksX9_nextAround_2 3 rfl rfl)
theorem dX9_nextAround_52 : decode cX9_nextAround 52 = .ok (.getfield 7, 3) := dk_180 0 7 (dk_at dksX9_nextAround_2 4 rfl rfl)
theorem dX9_nextAround_55 : decode cX9_nextAround 55 = .ok (.iconst 0, 1) := dk_3 (dk_at dksX9_nextAround_2 7 rfl rfl)
theorem dX9_nextAround_56 : decode cX9_nextAround 56 = .ok (.iaload, 1) := dk_46 (dk_at dksX9_nextAround_2 8 rfl rfl)
theorem dX9_nextAround_57 : decode cX9_nextAround 57 = .ok (.iload 4, 2) := dk_21 4 (dk_at dksX9_nextAround_2 9 rfl rfl)
theorem dX9_nextAround_59 : decode cX9_nextAround 59 = .ok (.imul, 1) := dk_104 (dk_at dksX9_nextAround_2 11 rfl rfl)
theorem dX9_nextAround_60 : decode cX9_nextAround 60 = .ok (.iload_n 3, 1) := dk_29 (dk_at dksX9_nextAround_2 12 rfl rfl)
theorem dX9_nextAround_61 : decode cX9_nextAround 61 = .ok (.iadd, 1) := dk_96 (dk_at dksX9_nextAround_2 13 rfl rfl)
theorem dX9_nextAround_62 : decode cX9_nextAround 62 = .ok (.ireturn, 1) := dk_172 (dk_at dksX9_nextAround_2 14 rfl rfl)
abbrev cX9_columnOf : ByteArray := prog_16_method_24_code
def yX9_columnOf : MethodName := ⟨RX9, "columnOf", "(I)I"⟩
def dkwX9_columnOf_0 : List UInt8 := [27, 42, 180, 0, 7, 3, 46, 112, 172]
abbrev dktX9_columnOf_0 : List UInt8 := dkwX9_columnOf_0 ++ []
theorem dksX9_columnOf_0 : cX9_columnOf.data.toList.drop 0 = dktX9_columnOf_0 := by decide +kernel
theorem dX9_columnOf_0 : decode cX9_columnOf 0 = .ok (.iload_n 1, 1) := dk_27 (dk_at dksX9_columnOf_0 0 rfl rfl)
theorem dX9_columnOf_1 : decode cX9_columnOf 1 = .ok (.aload_n 0, 1) := dk_42 (dk_at dksX9_columnOf_0 1 rfl rfl)
theorem dX9_columnOf_2 : decode cX9_columnOf 2 = .ok (.getfield 7, 3) := dk_180 0 7 (dk_at dksX9_columnOf_0 2 rfl rfl)
theorem dX9_columnOf_5 : decode cX9_columnOf 5 = .ok (.iconst 0, 1) := dk_3 (dk_at dksX9_columnOf_0 5 rfl rfl)
theorem dX9_columnOf_6 : decode cX9_columnOf 6 = .ok (.iaload, 1) := dk_46 (dk_at dksX9_columnOf_0 6 rfl rfl)
theorem dX9_columnOf_7 : decode cX9_columnOf 7 = .ok (.irem, 1) := dk_112 (dk_at dksX9_columnOf_0 7 rfl rfl)
theorem dX9_columnOf_8 : decode cX9_columnOf 8 = .ok (.ireturn, 1) := dk_172 (dk_at dksX9_columnOf_0 8 rfl rfl)
abbrev cX9_columnStep : ByteArray := prog_16_method_28_code
def yX9_columnStep : MethodName := ⟨RX9, "columnStep", "(I)I"⟩
def dkwX9_columnStep_0 : List UInt8 := [26, 4, 160, 0, 7, 4, 167, 0, 13, 26, 6, 160, 0, 7, 2, 167, 0, 4, 3, 172]
abbrev dktX9_columnStep_0 : List UInt8 := dkwX9_columnStep_0 ++ []
theorem dksX9_columnStep_0 : cX9_columnStep.data.toList.drop 0 = dktX9_columnStep_0 := by decide +kernel
theorem dX9_columnStep_0 : decode cX9_columnStep 0 = .ok (.iload_n 0, 1) := dk_26 (dk_at dksX9_columnStep_0 0 rfl rfl)
theorem dX9_columnStep_1 : decode cX9_columnStep 1 = .ok (.iconst 1, 1) := dk_4 (dk_at dksX9_columnStep_0 1 rfl rfl)
theorem dX9_columnStep_2 : decode cX9_columnStep 2 = .ok (.if_icmp .ne 7, 3) := dk_160 0 7 (dk_at dksX9_columnStep_0 2 rfl rfl)
theorem dX9_columnStep_5 : decode cX9_columnStep 5 = .ok (.iconst 1, 1) := dk_4 (dk_at dksX9_columnStep_0 5 rfl rfl)
theorem dX9_columnStep_6 : decode cX9_columnStep 6 = .ok (.goto 13, 3) := dk_167 0 13 (dk_at dksX9_columnStep_0 6 rfl rfl)
theorem dX9_columnStep_9 : decode cX9_columnStep 9 = .ok (.iload_n 0, 1) := dk_26 (dk_at dksX9_columnStep_0 9 rfl rfl)
theorem dX9_columnStep_10 : decode cX9_columnStep 10 = .ok (.iconst 3, 1) := dk_6 (dk_at dksX9_columnStep_0 10 rfl rfl)
theorem dX9_columnStep_11 : decode cX9_columnStep 11 = .ok (.if_icmp .ne 7, 3) := dk_160 0 7 (dk_at dksX9_columnStep_0 11 rfl rfl)
theorem dX9_columnStep_14 : decode cX9_columnStep 14 = .ok (.iconst (-1), 1) := dk_2 (dk_at dksX9_columnStep_0 14 rfl rfl)
theorem dX9_columnStep_15 : decode cX9_columnStep 15 = .ok (.goto 4, 3) := dk_167 0 4 (dk_at dksX9_columnStep_0 15 rfl rfl)
theorem dX9_columnStep_18 : decode cX9_columnStep 18 = .ok (.iconst 0, 1) := dk_3 (dk_at dksX9_columnStep_0 18 rfl rfl)
theorem dX9_columnStep_19 : decode cX9_columnStep 19 = .ok (.ireturn, 1) := dk_172 (dk_at dksX9_columnStep_0 19 rfl rfl)
abbrev cX9_rowOf : ByteArray := prog_16_method_25_code
def yX9_rowOf : MethodName := ⟨RX9, "rowOf", "(I)I"⟩
def dkwX9_rowOf_0 : List UInt8 := [27, 42, 180, 0, 7, 3, 46, 108, 172]
abbrev dktX9_rowOf_0 : List UInt8 := dkwX9_rowOf_0 ++ []
theorem dksX9_rowOf_0 : cX9_rowOf.data.toList.drop 0 = dktX9_rowOf_0 := by decide +kernel
theorem dX9_rowOf_0 : decode cX9_rowOf 0 = .ok (.iload_n 1, 1) := dk_27 (dk_at dksX9_rowOf_0 0 rfl rfl)
theorem dX9_rowOf_1 : decode cX9_rowOf 1 = .ok (.aload_n 0, 1) := dk_42 (dk_at dksX9_rowOf_0 1 rfl rfl)
theorem dX9_rowOf_2 : decode cX9_rowOf 2 = .ok (.getfield 7, 3) := dk_180 0 7 (dk_at dksX9_rowOf_0 2 rfl rfl)
theorem dX9_rowOf_5 : decode cX9_rowOf 5 = .ok (.iconst 0, 1) := dk_3 (dk_at dksX9_rowOf_0 5 rfl rfl)
theorem dX9_rowOf_6 : decode cX9_rowOf 6 = .ok (.iaload, 1) := dk_46 (dk_at dksX9_rowOf_0 6 rfl rfl)
theorem dX9_rowOf_7 : decode cX9_rowOf 7 = .ok (.idiv, 1) := dk_108 (dk_at dksX9_rowOf_0 7 rfl rfl)
theorem dX9_rowOf_8 : decode cX9_rowOf 8 = .ok (.ireturn, 1) := dk_172 (dk_at dksX9_rowOf_0 8 rfl rfl)
abbrev cX9_rowStep : ByteArray := prog_16_method_29_code
def yX9_rowStep : MethodName := ⟨RX9, "rowStep", "(I)I"⟩
def dkwX9_rowStep_0 : List UInt8 := [26, 5, 160, 0, 7, 4, 167, 0, 12, 26, 154, 0, 7, 2, 167, 0, 4, 3, 172]
abbrev dktX9_rowStep_0 : List UInt8 := dkwX9_rowStep_0 ++ []
theorem dksX9_rowStep_0 : cX9_rowStep.data.toList.drop 0 = dktX9_rowStep_0 := by decide +kernel
theorem dX9_rowStep_0 : decode cX9_rowStep 0 = .ok (.iload_n 0, 1) := dk_26 (dk_at dksX9_rowStep_0 0 rfl rfl)
theorem dX9_rowStep_1 : decode cX9_rowStep 1 = .ok (.iconst 2, 1) := dk_5 (dk_at dksX9_rowStep_0 1 rfl rfl)
theorem dX9_rowStep_2 : decode cX9_rowStep 2 = .ok (.if_icmp .ne 7, 3) := dk_160 0 7 (dk_at dksX9_rowStep_0 2 rfl rfl)
theorem dX9_rowStep_5 : decode cX9_rowStep 5 = .ok (.iconst 1, 1) := dk_4 (dk_at dksX9_rowStep_0 5 rfl rfl)
theorem dX9_rowStep_6 : decode cX9_rowStep 6 = .ok (.goto 12, 3) := dk_167 0 12 (dk_at dksX9_rowStep_0 6 rfl rfl)
theorem dX9_rowStep_9 : decode cX9_rowStep 9 = .ok (.iload_n 0, 1) := dk_26 (dk_at dksX9_rowStep_0 9 rfl rfl)
theorem dX9_rowStep_10 : decode cX9_rowStep 10 = .ok (.ifCond .ne 7, 3) := dk_154 0 7 (dk_at dksX9_rowStep_0 10 rfl rfl)
theorem dX9_rowStep_13 : decode cX9_rowStep 13 = .ok (.iconst (-1), 1) := dk_2 (dk_at dksX9_rowStep_0 13 rfl rfl)
theorem dX9_rowStep_14 : decode cX9_rowStep 14 = .ok (.goto 4, 3) := dk_167 0 4 (dk_at dksX9_rowStep_0 14 rfl rfl)
theorem dX9_rowStep_17 : decode cX9_rowStep 17 = .ok (.iconst 0, 1) := dk_3 (dk_at dksX9_rowStep_0 17 rfl rfl)
theorem dX9_rowStep_18 : decode cX9_rowStep 18 = .ok (.ireturn, 1) := dk_172 (dk_at dksX9_rowStep_0 18 rfl rfl)
abbrev cX9_turnAll : ByteArray := prog_16_method_40_code
def yX9_turnAll : MethodName := ⟨RX9, "turnAll", "()V"⟩
def dkwX9_turnAll_1 : List UInt8 := [42, 27, 4, 182, 0, 119, 42, 27, 6, 182, 0, 119, 96, 7, 112, 79, 132, 1, 1, 167, 255, 215, 177]
abbrev dktX9_turnAll_1 : List UInt8 := dkwX9_turnAll_1 ++ []
def dkwX9_turnAll_0 : List UInt8 := [3, 60, 27, 42, 180, 0, 7, 7, 46, 162, 0, 37, 42, 180, 0, 7, 16, 116, 7, 27, 104, 96, 4, 96]
abbrev dktX9_turnAll_0 : List UInt8 := dkwX9_turnAll_0 ++ dktX9_turnAll_1
theorem dksX9_turnAll_0 : cX9_turnAll.data.toList.drop 0 = dktX9_turnAll_0 := by decide +kernel
theorem dksX9_turnAll_1 : cX9_turnAll.data.toList.drop 24 = dktX9_turnAll_1 := dk_seg dksX9_turnAll_0 24 rfl rfl
theorem dX9_turnAll_0 : decode cX9_turnAll 0 = .ok (.iconst 0, 1) := dk_3 (dk_at dksX9_turnAll_0 0 rfl rfl)
theorem dX9_turnAll_1 : decode cX9_turnAll 1 = .ok (.istore_n 1, 1) := dk_60 (dk_at dksX9_turnAll_0 1 rfl rfl)
theorem dX9_turnAll_2 : decode cX9_turnAll 2 = .ok (.iload_n 1, 1) := dk_27 (dk_at dksX9_turnAll_0 2 rfl rfl)
theorem dX9_turnAll_3 : decode cX9_turnAll 3 = .ok (.aload_n 0, 1) := dk_42 (dk_at dksX9_turnAll_0 3 rfl rfl)
theorem dX9_turnAll_4 : decode cX9_turnAll 4 = .ok (.getfield 7, 3) := dk_180 0 7 (dk_at dksX9_turnAll_0 4 rfl rfl)
theorem dX9_turnAll_7 : decode cX9_turnAll 7 = .ok (.iconst 4, 1) := dk_7 (dk_at dksX9_turnAll_0 7 rfl rfl)
theorem dX9_turnAll_8 : decode cX9_turnAll 8 = .ok (.iaload, 1) := dk_46 (dk_at dksX9_turnAll_0 8 rfl rfl)
theorem dX9_turnAll_9 : decode cX9_turnAll 9 = .ok (.if_icmp .ge 37, 3) := dk_162 0 37 (dk_at dksX9_turnAll_0 9 rfl rfl)
theorem dX9_turnAll_12 : decode cX9_turnAll 12 = .ok (.aload_n 0, 1) := dk_42 (dk_at dksX9_turnAll_0 12 rfl rfl)
theorem dX9_turnAll_13 : decode cX9_turnAll 13 = .ok (.getfield 7, 3) := dk_180 0 7 (dk_at dksX9_turnAll_0 13 rfl rfl)
theorem dX9_turnAll_16 : decode cX9_turnAll 16 = .ok (.bipush 116, 2) := dk_16 116 (dk_at dksX9_turnAll_0 16 rfl rfl)
theorem dX9_turnAll_18 : decode cX9_turnAll 18 = .ok (.iconst 4, 1) := dk_7 (dk_at dksX9_turnAll_0 18 rfl rfl)
theorem dX9_turnAll_19 : decode cX9_turnAll 19 = .ok (.iload_n 1, 1) := dk_27 (dk_at dksX9_turnAll_0 19 rfl rfl)
theorem dX9_turnAll_20 : decode cX9_turnAll 20 = .ok (.imul, 1) := dk_104 (dk_at dksX9_turnAll_0 20 rfl rfl)
theorem dX9_turnAll_21 : decode cX9_turnAll 21 = .ok (.iadd, 1) := dk_96 (dk_at dksX9_turnAll_0 21 rfl rfl)
theorem dX9_turnAll_22 : decode cX9_turnAll 22 = .ok (.iconst 1, 1) := dk_4 (dk_at dksX9_turnAll_0 22 rfl rfl)
theorem dX9_turnAll_23 : decode cX9_turnAll 23 = .ok (.iadd, 1) := dk_96 (dk_at dksX9_turnAll_0 23 rfl rfl)
theorem dX9_turnAll_24 : decode cX9_turnAll 24 = .ok (.aload_n 0, 1) := dk_42 (dk_at dksX9_turnAll_1 0 rfl rfl)
theorem dX9_turnAll_25 : decode cX9_turnAll 25 = .ok (.iload_n 1, 1) := dk_27 (dk_at dksX9_turnAll_1 1 rfl rfl)
theorem dX9_turnAll_26 : decode cX9_turnAll 26 = .ok (.iconst 1, 1) := dk_4 (dk_at dksX9_turnAll_1 2 rfl rfl)
theorem dX9_turnAll_27 : decode cX9_turnAll 27 = .ok (.invokevirtual 119, 3) := dk_182 0 119 (dk_at dksX9_turnAll_1 3 rfl rfl)
theorem dX9_turnAll_30 : decode cX9_turnAll 30 = .ok (.aload_n 0, 1) := dk_42 (dk_at dksX9_turnAll_1 6 rfl rfl)
theorem dX9_turnAll_31 : decode cX9_turnAll 31 = .ok (.iload_n 1, 1) := dk_27 (dk_at dksX9_turnAll_1 7 rfl rfl)
theorem dX9_turnAll_32 : decode cX9_turnAll 32 = .ok (.iconst 3, 1) := dk_6 (dk_at dksX9_turnAll_1 8 rfl rfl)
theorem dX9_turnAll_33 : decode cX9_turnAll 33 = .ok (.invokevirtual 119, 3) := dk_182 0 119 (dk_at dksX9_turnAll_1 9 rfl rfl)
theorem dX9_turnAll_36 : decode cX9_turnAll 36 = .ok (.iadd, 1) := dk_96 (dk_at dksX9_turnAll_1 12 rfl rfl)
theorem dX9_turnAll_37 : decode cX9_turnAll 37 = .ok (.iconst 4, 1) := dk_7 (dk_at dksX9_turnAll_1 13 rfl rfl)
theorem dX9_turnAll_38 : decode cX9_turnAll 38 = .ok (.irem, 1) := dk_112 (dk_at dksX9_turnAll_1 14 rfl rfl)
theorem dX9_turnAll_39 : decode cX9_turnAll 39 = .ok (.iastore, 1) := dk_79 (dk_at dksX9_turnAll_1 15 rfl rfl)
theorem dX9_turnAll_40 : decode cX9_turnAll 40 = .ok (.iinc 1 1, 3) := dk_132 1 1 (dk_at dksX9_turnAll_1 16 rfl rfl)
theorem dX9_turnAll_43 : decode cX9_turnAll 43 = .ok (.goto (-41), 3) := dk_167 255 215 (dk_at dksX9_turnAll_1 19 rfl rfl)
theorem dX9_turnAll_46 : decode cX9_turnAll 46 = .ok (.return_, 1) := dk_177 (dk_at dksX9_turnAll_1 22 rfl rfl)
abbrev cX9_laySeen : ByteArray := prog_16_method_37_code
def yX9_laySeen : MethodName := ⟨RX9, "laySeen", "()V"⟩
def dkwX9_laySeen_3 : List UInt8 := [84, 132, 2, 1, 42, 27, 28, 182, 0, 129, 62, 167, 255, 219, 132, 1, 1, 167, 255, 194, 177]
abbrev dktX9_laySeen_3 : List UInt8 := dkwX9_laySeen_3 ++ []
def dkwX9_laySeen_2 : List UInt8 := [159, 0, 38, 42, 27, 28, 182, 0, 138, 42, 27, 5, 182, 0, 119, 163, 0, 23, 42, 180, 0, 29, 29, 4]
abbrev dktX9_laySeen_2 : List UInt8 := dkwX9_laySeen_2 ++ dktX9_laySeen_3
def dkwX9_laySeen_1 : List UInt8 := [60, 27, 42, 180, 0, 7, 7, 46, 162, 0, 58, 3, 61, 42, 27, 3, 182, 0, 129, 62, 29, 2]
abbrev dktX9_laySeen_1 : List UInt8 := dkwX9_laySeen_1 ++ dktX9_laySeen_2
def dkwX9_laySeen_0 : List UInt8 := [3, 60, 27, 42, 182, 0, 84, 162, 0, 16, 42, 180, 0, 29, 27, 3, 84, 132, 1, 1, 167, 255, 238, 3]
abbrev dktX9_laySeen_0 : List UInt8 := dkwX9_laySeen_0 ++ dktX9_laySeen_1
theorem dksX9_laySeen_0 : cX9_laySeen.data.toList.drop 0 = dktX9_laySeen_0 := by decide +kernel
theorem dksX9_laySeen_1 : cX9_laySeen.data.toList.drop 24 = dktX9_laySeen_1 := dk_seg dksX9_laySeen_0 24 rfl rfl
theorem dksX9_laySeen_2 : cX9_laySeen.data.toList.drop 46 = dktX9_laySeen_2 := dk_seg dksX9_laySeen_1 22 rfl rfl
theorem dksX9_laySeen_3 : cX9_laySeen.data.toList.drop 70 = dktX9_laySeen_3 := dk_seg dksX9_laySeen_2 24 rfl rfl
theorem dX9_laySeen_0 : decode cX9_laySeen 0 = .ok (.iconst 0, 1) := dk_3 (dk_at dksX9_laySeen_0 0 rfl rfl)
theorem dX9_laySeen_1 : decode cX9_laySeen 1 = .ok (.istore_n 1, 1) := dk_60 (dk_at dksX9_laySeen_0 1 rfl rfl)
theorem dX9_laySeen_2 : decode cX9_laySeen 2 = .ok (.iload_n 1, 1) := dk_27 (dk_at dksX9_laySeen_0 2 rfl rfl)
theorem dX9_laySeen_3 : decode cX9_laySeen 3 = .ok (.aload_n 0, 1) := dk_42 (dk_at dksX9_laySeen_0 3 rfl rfl)
theorem dX9_laySeen_4 : decode cX9_laySeen 4 = .ok (.invokevirtual 84, 3) := dk_182 0 84 (dk_at dksX9_laySeen_0 4 rfl rfl)
theorem dX9_laySeen_7 : decode cX9_laySeen 7 = .ok (.if_icmp .ge 16, 3) := dk_162 0 16 (dk_at dksX9_laySeen_0 7 rfl rfl)
theorem dX9_laySeen_10 : decode cX9_laySeen 10 = .ok (.aload_n 0, 1) := dk_42 (dk_at dksX9_laySeen_0 10 rfl rfl)
theorem dX9_laySeen_11 : decode cX9_laySeen 11 = .ok (.getfield 29, 3) := dk_180 0 29 (dk_at dksX9_laySeen_0 11 rfl rfl)
theorem dX9_laySeen_14 : decode cX9_laySeen 14 = .ok (.iload_n 1, 1) := dk_27 (dk_at dksX9_laySeen_0 14 rfl rfl)
theorem dX9_laySeen_15 : decode cX9_laySeen 15 = .ok (.iconst 0, 1) := dk_3 (dk_at dksX9_laySeen_0 15 rfl rfl)
theorem dX9_laySeen_16 : decode cX9_laySeen 16 = .ok (.bastore, 1) := dk_84 (dk_at dksX9_laySeen_0 16 rfl rfl)
theorem dX9_laySeen_17 : decode cX9_laySeen 17 = .ok (.iinc 1 1, 3) := dk_132 1 1 (dk_at dksX9_laySeen_0 17 rfl rfl)
theorem dX9_laySeen_20 : decode cX9_laySeen 20 = .ok (.goto (-18), 3) := dk_167 255 238 (dk_at dksX9_laySeen_0 20 rfl rfl)
theorem dX9_laySeen_23 : decode cX9_laySeen 23 = .ok (.iconst 0, 1) := dk_3 (dk_at dksX9_laySeen_0 23 rfl rfl)
theorem dX9_laySeen_24 : decode cX9_laySeen 24 = .ok (.istore_n 1, 1) := dk_60 (dk_at dksX9_laySeen_1 0 rfl rfl)
theorem dX9_laySeen_25 : decode cX9_laySeen 25 = .ok (.iload_n 1, 1) := dk_27 (dk_at dksX9_laySeen_1 1 rfl rfl)
theorem dX9_laySeen_26 : decode cX9_laySeen 26 = .ok (.aload_n 0, 1) := dk_42 (dk_at dksX9_laySeen_1 2 rfl rfl)
theorem dX9_laySeen_27 : decode cX9_laySeen 27 = .ok (.getfield 7, 3) := dk_180 0 7 (dk_at dksX9_laySeen_1 3 rfl rfl)
theorem dX9_laySeen_30 : decode cX9_laySeen 30 = .ok (.iconst 4, 1) := dk_7 (dk_at dksX9_laySeen_1 6 rfl rfl)
theorem dX9_laySeen_31 : decode cX9_laySeen 31 = .ok (.iaload, 1) := dk_46 (dk_at dksX9_laySeen_1 7 rfl rfl)
theorem dX9_laySeen_32 : decode cX9_laySeen 32 = .ok (.if_icmp .ge 58, 3) := dk_162 0 58 (dk_at dksX9_laySeen_1 8 rfl rfl)
theorem dX9_laySeen_35 : decode cX9_laySeen 35 = .ok (.iconst 0, 1) := dk_3 (dk_at dksX9_laySeen_1 11 rfl rfl)
theorem dX9_laySeen_36 : decode cX9_laySeen 36 = .ok (.istore_n 2, 1) := dk_61 (dk_at dksX9_laySeen_1 12 rfl rfl)
theorem dX9_laySeen_37 : decode cX9_laySeen 37 = .ok (.aload_n 0, 1) := dk_42 (dk_at dksX9_laySeen_1 13 rfl rfl)
theorem dX9_laySeen_38 : decode cX9_laySeen 38 = .ok (.iload_n 1, 1) := dk_27 (dk_at dksX9_laySeen_1 14 rfl rfl)
theorem dX9_laySeen_39 : decode cX9_laySeen 39 = .ok (.iconst 0, 1) := dk_3 (dk_at dksX9_laySeen_1 15 rfl rfl)
theorem dX9_laySeen_40 : decode cX9_laySeen 40 = .ok (.invokevirtual 129, 3) := dk_182 0 129 (dk_at dksX9_laySeen_1 16 rfl rfl)
theorem dX9_laySeen_43 : decode cX9_laySeen 43 = .ok (.istore_n 3, 1) := dk_62 (dk_at dksX9_laySeen_1 19 rfl rfl)
theorem dX9_laySeen_44 : decode cX9_laySeen 44 = .ok (.iload_n 3, 1) := dk_29 (dk_at dksX9_laySeen_1 20 rfl rfl)
theorem dX9_laySeen_45 : decode cX9_laySeen 45 = .ok (.iconst (-1), 1) := dk_2 (dk_at dksX9_laySeen_1 21 rfl rfl)
theorem dX9_laySeen_46 : decode cX9_laySeen 46 = .ok (.if_icmp .eq 38, 3) := dk_159 0 38 (dk_at dksX9_laySeen_2 0 rfl rfl)
theorem dX9_laySeen_49 : decode cX9_laySeen 49 = .ok (.aload_n 0, 1) := dk_42 (dk_at dksX9_laySeen_2 3 rfl rfl)
theorem dX9_laySeen_50 : decode cX9_laySeen 50 = .ok (.iload_n 1, 1) := dk_27 (dk_at dksX9_laySeen_2 4 rfl rfl)
theorem dX9_laySeen_51 : decode cX9_laySeen 51 = .ok (.iload_n 2, 1) := dk_28 (dk_at dksX9_laySeen_2 5 rfl rfl)
theorem dX9_laySeen_52 : decode cX9_laySeen 52 = .ok (.invokevirtual 138, 3) := dk_182 0 138 (dk_at dksX9_laySeen_2 6 rfl rfl)
theorem dX9_laySeen_55 : decode cX9_laySeen 55 = .ok (.aload_n 0, 1) := dk_42 (dk_at dksX9_laySeen_2 9 rfl rfl)
theorem dX9_laySeen_56 : decode cX9_laySeen 56 = .ok (.iload_n 1, 1) := dk_27 (dk_at dksX9_laySeen_2 10 rfl rfl)
theorem dX9_laySeen_57 : decode cX9_laySeen 57 = .ok (.iconst 2, 1) := dk_5 (dk_at dksX9_laySeen_2 11 rfl rfl)
theorem dX9_laySeen_58 : decode cX9_laySeen 58 = .ok (.invokevirtual 119, 3) := dk_182 0 119 (dk_at dksX9_laySeen_2 12 rfl rfl)
theorem dX9_laySeen_61 : decode cX9_laySeen 61 = .ok (.if_icmp .gt 23, 3) := dk_163 0 23 (dk_at dksX9_laySeen_2 15 rfl rfl)
theorem dX9_laySeen_64 : decode cX9_laySeen 64 = .ok (.aload_n 0, 1) := dk_42 (dk_at dksX9_laySeen_2 18 rfl rfl)
theorem dX9_laySeen_65 : decode cX9_laySeen 65 = .ok (.getfield 29, 3) := dk_180 0 29 (dk_at dksX9_laySeen_2 19 rfl rfl)
theorem dX9_laySeen_68 : decode cX9_laySeen 68 = .ok (.iload_n 3, 1) := dk_29 (dk_at dksX9_laySeen_2 22 rfl rfl)
theorem dX9_laySeen_69 : decode cX9_laySeen 69 = .ok (.iconst 1, 1) := dk_4 (dk_at dksX9_laySeen_2 23 rfl rfl)
theorem dX9_laySeen_70 : decode cX9_laySeen 70 = .ok (.bastore, 1) := dk_84 (dk_at dksX9_laySeen_3 0 rfl rfl)
theorem dX9_laySeen_71 : decode cX9_laySeen 71 = .ok (.iinc 2 1, 3) := dk_132 2 1 (dk_at dksX9_laySeen_3 1 rfl rfl)
theorem dX9_laySeen_74 : decode cX9_laySeen 74 = .ok (.aload_n 0, 1) := dk_42 (dk_at dksX9_laySeen_3 4 rfl rfl)
theorem dX9_laySeen_75 : decode cX9_laySeen 75 = .ok (.iload_n 1, 1) := dk_27 (dk_at dksX9_laySeen_3 5 rfl rfl)
theorem dX9_laySeen_76 : decode cX9_laySeen 76 = .ok (.iload_n 2, 1) := dk_28 (dk_at dksX9_laySeen_3 6 rfl rfl)
theorem dX9_laySeen_77 : decode cX9_laySeen 77 = .ok (.invokevirtual 129, 3) := dk_182 0 129 (dk_at dksX9_laySeen_3 7 rfl rfl)
theorem dX9_laySeen_80 : decode cX9_laySeen 80 = .ok (.istore_n 3, 1) := dk_62 (dk_at dksX9_laySeen_3 10 rfl rfl)
theorem dX9_laySeen_81 : decode cX9_laySeen 81 = .ok (.goto (-37), 3) := dk_167 255 219 (dk_at dksX9_laySeen_3 11 rfl rfl)
theorem dX9_laySeen_84 : decode cX9_laySeen 84 = .ok (.iinc 1 1, 3) := dk_132 1 1 (dk_at dksX9_laySeen_3 14 rfl rfl)
theorem dX9_laySeen_87 : decode cX9_laySeen 87 = .ok (.goto (-62), 3) := dk_167 255 194 (dk_at dksX9_laySeen_3 17 rfl rfl)
theorem dX9_laySeen_90 : decode cX9_laySeen 90 = .ok (.return_, 1) := dk_177 (dk_at dksX9_laySeen_3 20 rfl rfl)
abbrev cX9_gazeAt : ByteArray := prog_16_method_32_code
def yX9_gazeAt : MethodName := ⟨RX9, "gazeAt", "(II)I"⟩
def dkwX9_gazeAt_2 : List UInt8 := [167, 255, 220, 28, 42, 27, 5, 182, 0, 119, 164, 0, 7, 2, 167, 0, 4, 29, 172]
abbrev dktX9_gazeAt_2 : List UInt8 := dkwX9_gazeAt_2 ++ []
def dkwX9_gazeAt_1 : List UInt8 := [182, 0, 122, 62, 29, 2, 159, 0, 11, 42, 29, 182, 0, 125, 153, 0, 5, 2, 172, 132, 4, 1]
abbrev dktX9_gazeAt_1 : List UInt8 := dkwX9_gazeAt_1 ++ dktX9_gazeAt_2
def dkwX9_gazeAt_0 : List UInt8 := [42, 27, 3, 182, 0, 119, 62, 3, 54, 4, 21, 4, 28, 162, 0, 36, 42, 29, 42, 27, 4, 182, 0, 119]
abbrev dktX9_gazeAt_0 : List UInt8 := dkwX9_gazeAt_0 ++ dktX9_gazeAt_1
theorem dksX9_gazeAt_0 : cX9_gazeAt.data.toList.drop 0 = dktX9_gazeAt_0 := by decide +kernel
theorem dksX9_gazeAt_1 : cX9_gazeAt.data.toList.drop 24 = dktX9_gazeAt_1 := dk_seg dksX9_gazeAt_0 24 rfl rfl
theorem dksX9_gazeAt_2 : cX9_gazeAt.data.toList.drop 46 = dktX9_gazeAt_2 := dk_seg dksX9_gazeAt_1 22 rfl rfl
theorem dX9_gazeAt_0 : decode cX9_gazeAt 0 = .ok (.aload_n 0, 1) := dk_42 (dk_at dksX9_gazeAt_0 0 rfl rfl)
theorem dX9_gazeAt_1 : decode cX9_gazeAt 1 = .ok (.iload_n 1, 1) := dk_27 (dk_at dksX9_gazeAt_0 1 rfl rfl)
theorem dX9_gazeAt_2 : decode cX9_gazeAt 2 = .ok (.iconst 0, 1) := dk_3 (dk_at dksX9_gazeAt_0 2 rfl rfl)
theorem dX9_gazeAt_3 : decode cX9_gazeAt 3 = .ok (.invokevirtual 119, 3) := dk_182 0 119 (dk_at dksX9_gazeAt_0 3 rfl rfl)
theorem dX9_gazeAt_6 : decode cX9_gazeAt 6 = .ok (.istore_n 3, 1) := dk_62 (dk_at dksX9_gazeAt_0 6 rfl rfl)
theorem dX9_gazeAt_7 : decode cX9_gazeAt 7 = .ok (.iconst 0, 1) := dk_3 (dk_at dksX9_gazeAt_0 7 rfl rfl)
theorem dX9_gazeAt_8 : decode cX9_gazeAt 8 = .ok (.istore 4, 2) := dk_54 4 (dk_at dksX9_gazeAt_0 8 rfl rfl)
theorem dX9_gazeAt_10 : decode cX9_gazeAt 10 = .ok (.iload 4, 2) := dk_21 4 (dk_at dksX9_gazeAt_0 10 rfl rfl)
theorem dX9_gazeAt_12 : decode cX9_gazeAt 12 = .ok (.iload_n 2, 1) := dk_28 (dk_at dksX9_gazeAt_0 12 rfl rfl)
theorem dX9_gazeAt_13 : decode cX9_gazeAt 13 = .ok (.if_icmp .ge 36, 3) := dk_162 0 36 (dk_at dksX9_gazeAt_0 13 rfl rfl)
theorem dX9_gazeAt_16 : decode cX9_gazeAt 16 = .ok (.aload_n 0, 1) := dk_42 (dk_at dksX9_gazeAt_0 16 rfl rfl)
theorem dX9_gazeAt_17 : decode cX9_gazeAt 17 = .ok (.iload_n 3, 1) := dk_29 (dk_at dksX9_gazeAt_0 17 rfl rfl)
theorem dX9_gazeAt_18 : decode cX9_gazeAt 18 = .ok (.aload_n 0, 1) := dk_42 (dk_at dksX9_gazeAt_0 18 rfl rfl)
theorem dX9_gazeAt_19 : decode cX9_gazeAt 19 = .ok (.iload_n 1, 1) := dk_27 (dk_at dksX9_gazeAt_0 19 rfl rfl)
theorem dX9_gazeAt_20 : decode cX9_gazeAt 20 = .ok (.iconst 1, 1) := dk_4 (dk_at dksX9_gazeAt_0 20 rfl rfl)
theorem dX9_gazeAt_21 : decode cX9_gazeAt 21 = .ok (.invokevirtual 119, 3) := dk_182 0 119 (dk_at dksX9_gazeAt_0 21 rfl rfl)
theorem dX9_gazeAt_24 : decode cX9_gazeAt 24 = .ok (.invokevirtual 122, 3) := dk_182 0 122 (dk_at dksX9_gazeAt_1 0 rfl rfl)
theorem dX9_gazeAt_27 : decode cX9_gazeAt 27 = .ok (.istore_n 3, 1) := dk_62 (dk_at dksX9_gazeAt_1 3 rfl rfl)
theorem dX9_gazeAt_28 : decode cX9_gazeAt 28 = .ok (.iload_n 3, 1) := dk_29 (dk_at dksX9_gazeAt_1 4 rfl rfl)
theorem dX9_gazeAt_29 : decode cX9_gazeAt 29 = .ok (.iconst (-1), 1) := dk_2 (dk_at dksX9_gazeAt_1 5 rfl rfl)
theorem dX9_gazeAt_30 : decode cX9_gazeAt 30 = .ok (.if_icmp .eq 11, 3) := dk_159 0 11 (dk_at dksX9_gazeAt_1 6 rfl rfl)
theorem dX9_gazeAt_33 : decode cX9_gazeAt 33 = .ok (.aload_n 0, 1) := dk_42 (dk_at dksX9_gazeAt_1 9 rfl rfl)
theorem dX9_gazeAt_34 : decode cX9_gazeAt 34 = .ok (.iload_n 3, 1) := dk_29 (dk_at dksX9_gazeAt_1 10 rfl rfl)
theorem dX9_gazeAt_35 : decode cX9_gazeAt 35 = .ok (.invokevirtual 125, 3) := dk_182 0 125 (dk_at dksX9_gazeAt_1 11 rfl rfl)
theorem dX9_gazeAt_38 : decode cX9_gazeAt 38 = .ok (.ifCond .eq 5, 3) := dk_153 0 5 (dk_at dksX9_gazeAt_1 14 rfl rfl)
theorem dX9_gazeAt_41 : decode cX9_gazeAt 41 = .ok (.iconst (-1), 1) := dk_2 (dk_at dksX9_gazeAt_1 17 rfl rfl)
theorem dX9_gazeAt_42 : decode cX9_gazeAt 42 = .ok (.ireturn, 1) := dk_172 (dk_at dksX9_gazeAt_1 18 rfl rfl)
theorem dX9_gazeAt_43 : decode cX9_gazeAt 43 = .ok (.iinc 4 1, 3) := dk_132 4 1 (dk_at dksX9_gazeAt_1 19 rfl rfl)
theorem dX9_gazeAt_46 : decode cX9_gazeAt 46 = .ok (.goto (-36), 3) := dk_167 255 220 (dk_at dksX9_gazeAt_2 0 rfl rfl)
theorem dX9_gazeAt_49 : decode cX9_gazeAt 49 = .ok (.iload_n 2, 1) := dk_28 (dk_at dksX9_gazeAt_2 3 rfl rfl)
theorem dX9_gazeAt_50 : decode cX9_gazeAt 50 = .ok (.aload_n 0, 1) := dk_42 (dk_at dksX9_gazeAt_2 4 rfl rfl)
theorem dX9_gazeAt_51 : decode cX9_gazeAt 51 = .ok (.iload_n 1, 1) := dk_27 (dk_at dksX9_gazeAt_2 5 rfl rfl)
theorem dX9_gazeAt_52 : decode cX9_gazeAt 52 = .ok (.iconst 2, 1) := dk_5 (dk_at dksX9_gazeAt_2 6 rfl rfl)
theorem dX9_gazeAt_53 : decode cX9_gazeAt 53 = .ok (.invokevirtual 119, 3) := dk_182 0 119 (dk_at dksX9_gazeAt_2 7 rfl rfl)
theorem dX9_gazeAt_56 : decode cX9_gazeAt 56 = .ok (.if_icmp .le 7, 3) := dk_164 0 7 (dk_at dksX9_gazeAt_2 10 rfl rfl)
theorem dX9_gazeAt_59 : decode cX9_gazeAt 59 = .ok (.iconst (-1), 1) := dk_2 (dk_at dksX9_gazeAt_2 13 rfl rfl)
theorem dX9_gazeAt_60 : decode cX9_gazeAt 60 = .ok (.goto 4, 3) := dk_167 0 4 (dk_at dksX9_gazeAt_2 14 rfl rfl)
theorem dX9_gazeAt_63 : decode cX9_gazeAt 63 = .ok (.iload_n 3, 1) := dk_29 (dk_at dksX9_gazeAt_2 17 rfl rfl)
theorem dX9_gazeAt_64 : decode cX9_gazeAt 64 = .ok (.ireturn, 1) := dk_172 (dk_at dksX9_gazeAt_2 18 rfl rfl)
abbrev cX9_nextTo : ByteArray := prog_16_method_30_code
def yX9_nextTo : MethodName := ⟨RX9, "nextTo", "(II)I"⟩
def dkwX9_nextTo_3 : List UInt8 := [3, 46, 21, 4, 104, 29, 96, 167, 0, 4, 2, 172]
abbrev dktX9_nextTo_3 : List UInt8 := dkwX9_nextTo_3 ++ []
def dkwX9_nextTo_2 : List UInt8 := [4, 100, 184, 0, 88, 153, 0, 7, 4, 167, 0, 4, 3, 54, 5, 21, 5, 153, 0, 17, 42, 180, 0, 7]
abbrev dktX9_nextTo_2 : List UInt8 := dkwX9_nextTo_2 ++ dktX9_nextTo_3
def dkwX9_nextTo_1 : List UInt8 := [3, 42, 180, 0, 7, 3, 46, 4, 100, 184, 0, 88, 153, 0, 24, 21, 4, 3, 42, 180, 0, 7, 4, 46]
abbrev dktX9_nextTo_1 : List UInt8 := dkwX9_nextTo_1 ++ dktX9_nextTo_2
def dkwX9_nextTo_0 : List UInt8 := [42, 27, 182, 0, 92, 28, 184, 0, 113, 96, 62, 42, 27, 182, 0, 101, 28, 184, 0, 116, 96, 54, 4, 29]
abbrev dktX9_nextTo_0 : List UInt8 := dkwX9_nextTo_0 ++ dktX9_nextTo_1
theorem dksX9_nextTo_0 : cX9_nextTo.data.toList.drop 0 = dktX9_nextTo_0 := by decide +kernel
theorem dksX9_nextTo_1 : cX9_nextTo.data.toList.drop 24 = dktX9_nextTo_1 := dk_seg dksX9_nextTo_0 24 rfl rfl
theorem dksX9_nextTo_2 : cX9_nextTo.data.toList.drop 48 = dktX9_nextTo_2 := dk_seg dksX9_nextTo_1 24 rfl rfl
theorem dksX9_nextTo_3 : cX9_nextTo.data.toList.drop 72 = dktX9_nextTo_3 := dk_seg dksX9_nextTo_2 24 rfl rfl
theorem dX9_nextTo_0 : decode cX9_nextTo 0 = .ok (.aload_n 0, 1) := dk_42 (dk_at dksX9_nextTo_0 0 rfl rfl)
theorem dX9_nextTo_1 : decode cX9_nextTo 1 = .ok (.iload_n 1, 1) := dk_27 (dk_at dksX9_nextTo_0 1 rfl rfl)
theorem dX9_nextTo_2 : decode cX9_nextTo 2 = .ok (.invokevirtual 92, 3) := dk_182 0 92 (dk_at dksX9_nextTo_0 2 rfl rfl)
theorem dX9_nextTo_5 : decode cX9_nextTo 5 = .ok (.iload_n 2, 1) := dk_28 (dk_at dksX9_nextTo_0 5 rfl rfl)
theorem dX9_nextTo_6 : decode cX9_nextTo 6 = .ok (.invokestatic 113, 3) := dk_184 0 113 (dk_at dksX9_nextTo_0 6 rfl rfl)
theorem dX9_nextTo_9 : decode cX9_nextTo 9 = .ok (.iadd, 1) := dk_96 (dk_at dksX9_nextTo_0 9 rfl rfl)
theorem dX9_nextTo_10 : decode cX9_nextTo 10 = .ok (.istore_n 3, 1) := dk_62 (dk_at dksX9_nextTo_0 10 rfl rfl)
theorem dX9_nextTo_11 : decode cX9_nextTo 11 = .ok (.aload_n 0, 1) := dk_42 (dk_at dksX9_nextTo_0 11 rfl rfl)
theorem dX9_nextTo_12 : decode cX9_nextTo 12 = .ok (.iload_n 1, 1) := dk_27 (dk_at dksX9_nextTo_0 12 rfl rfl)
theorem dX9_nextTo_13 : decode cX9_nextTo 13 = .ok (.invokevirtual 101, 3) := dk_182 0 101 (dk_at dksX9_nextTo_0 13 rfl rfl)
theorem dX9_nextTo_16 : decode cX9_nextTo 16 = .ok (.iload_n 2, 1) := dk_28 (dk_at dksX9_nextTo_0 16 rfl rfl)
theorem dX9_nextTo_17 : decode cX9_nextTo 17 = .ok (.invokestatic 116, 3) := dk_184 0 116 (dk_at dksX9_nextTo_0 17 rfl rfl)
theorem dX9_nextTo_20 : decode cX9_nextTo 20 = .ok (.iadd, 1) := dk_96 (dk_at dksX9_nextTo_0 20 rfl rfl)
theorem dX9_nextTo_21 : decode cX9_nextTo 21 = .ok (.istore 4, 2) := dk_54 4 (dk_at dksX9_nextTo_0 21 rfl rfl)
theorem dX9_nextTo_23 : decode cX9_nextTo 23 = .ok (.iload_n 3, 1) := dk_29 (dk_at dksX9_nextTo_0 23 rfl rfl)
theorem dX9_nextTo_24 : decode cX9_nextTo 24 = .ok (.iconst 0, 1) := dk_3 (dk_at dksX9_nextTo_1 0 rfl rfl)
theorem dX9_nextTo_25 : decode cX9_nextTo 25 = .ok (.aload_n 0, 1) := dk_42 (dk_at dksX9_nextTo_1 1 rfl rfl)
theorem dX9_nextTo_26 : decode cX9_nextTo 26 = .ok (.getfield 7, 3) := dk_180 0 7 (dk_at dksX9_nextTo_1 2 rfl rfl)
theorem dX9_nextTo_29 : decode cX9_nextTo 29 = .ok (.iconst 0, 1) := dk_3 (dk_at dksX9_nextTo_1 5 rfl rfl)
theorem dX9_nextTo_30 : decode cX9_nextTo 30 = .ok (.iaload, 1) := dk_46 (dk_at dksX9_nextTo_1 6 rfl rfl)
theorem dX9_nextTo_31 : decode cX9_nextTo 31 = .ok (.iconst 1, 1) := dk_4 (dk_at dksX9_nextTo_1 7 rfl rfl)
theorem dX9_nextTo_32 : decode cX9_nextTo 32 = .ok (.isub, 1) := dk_100 (dk_at dksX9_nextTo_1 8 rfl rfl)
theorem dX9_nextTo_33 : decode cX9_nextTo 33 = .ok (.invokestatic 88, 3) := dk_184 0 88 (dk_at dksX9_nextTo_1 9 rfl rfl)
theorem dX9_nextTo_36 : decode cX9_nextTo 36 = .ok (.ifCond .eq 24, 3) := dk_153 0 24 (dk_at dksX9_nextTo_1 12 rfl rfl)
theorem dX9_nextTo_39 : decode cX9_nextTo 39 = .ok (.iload 4, 2) := dk_21 4 (dk_at dksX9_nextTo_1 15 rfl rfl)
theorem dX9_nextTo_41 : decode cX9_nextTo 41 = .ok (.iconst 0, 1) := dk_3 (dk_at dksX9_nextTo_1 17 rfl rfl)
theorem dX9_nextTo_42 : decode cX9_nextTo 42 = .ok (.aload_n 0, 1) := dk_42 (dk_at dksX9_nextTo_1 18 rfl rfl)
theorem dX9_nextTo_43 : decode cX9_nextTo 43 = .ok (.getfield 7, 3) := dk_180 0 7 (dk_at dksX9_nextTo_1 19 rfl rfl)
theorem dX9_nextTo_46 : decode cX9_nextTo 46 = .ok (.iconst 1, 1) := dk_4 (dk_at dksX9_nextTo_1 22 rfl rfl)
theorem dX9_nextTo_47 : decode cX9_nextTo 47 = .ok (.iaload, 1) := dk_46 (dk_at dksX9_nextTo_1 23 rfl rfl)
theorem dX9_nextTo_48 : decode cX9_nextTo 48 = .ok (.iconst 1, 1) := dk_4 (dk_at dksX9_nextTo_2 0 rfl rfl)
theorem dX9_nextTo_49 : decode cX9_nextTo 49 = .ok (.isub, 1) := dk_100 (dk_at dksX9_nextTo_2 1 rfl rfl)
theorem dX9_nextTo_50 : decode cX9_nextTo 50 = .ok (.invokestatic 88, 3) := dk_184 0 88 (dk_at dksX9_nextTo_2 2 rfl rfl)
theorem dX9_nextTo_53 : decode cX9_nextTo 53 = .ok (.ifCond .eq 7, 3) := dk_153 0 7 (dk_at dksX9_nextTo_2 5 rfl rfl)
theorem dX9_nextTo_56 : decode cX9_nextTo 56 = .ok (.iconst 1, 1) := dk_4 (dk_at dksX9_nextTo_2 8 rfl rfl)
theorem dX9_nextTo_57 : decode cX9_nextTo 57 = .ok (.goto 4, 3) := dk_167 0 4 (dk_at dksX9_nextTo_2 9 rfl rfl)
theorem dX9_nextTo_60 : decode cX9_nextTo 60 = .ok (.iconst 0, 1) := dk_3 (dk_at dksX9_nextTo_2 12 rfl rfl)
theorem dX9_nextTo_61 : decode cX9_nextTo 61 = .ok (.istore 5, 2) := dk_54 5 (dk_at dksX9_nextTo_2 13 rfl rfl)
theorem dX9_nextTo_63 : decode cX9_nextTo 63 = .ok (.iload 5, 2) := dk_21 5 (dk_at dksX9_nextTo_2 15 rfl rfl)
theorem dX9_nextTo_65 : decode cX9_nextTo 65 = .ok (.ifCond .eq 17, 3) := dk_153 0 17 (dk_at dksX9_nextTo_2 17 rfl rfl)
theorem dX9_nextTo_68 : decode cX9_nextTo 68 = .ok (.aload_n 0, 1) := dk_42 (dk_at dksX9_nextTo_2 20 rfl rfl)
theorem dX9_nextTo_69 : decode cX9_nextTo 69 = .ok (.getfield 7, 3) := dk_180 0 7 (dk_at dksX9_nextTo_2 21 rfl rfl)
theorem dX9_nextTo_72 : decode cX9_nextTo 72 = .ok (.iconst 0, 1) := dk_3 (dk_at dksX9_nextTo_3 0 rfl rfl)
theorem dX9_nextTo_73 : decode cX9_nextTo 73 = .ok (.iaload, 1) := dk_46 (dk_at dksX9_nextTo_3 1 rfl rfl)
theorem dX9_nextTo_74 : decode cX9_nextTo 74 = .ok (.iload 4, 2) := dk_21 4 (dk_at dksX9_nextTo_3 2 rfl rfl)
theorem dX9_nextTo_76 : decode cX9_nextTo 76 = .ok (.imul, 1) := dk_104 (dk_at dksX9_nextTo_3 4 rfl rfl)
theorem dX9_nextTo_77 : decode cX9_nextTo 77 = .ok (.iload_n 3, 1) := dk_29 (dk_at dksX9_nextTo_3 5 rfl rfl)
theorem dX9_nextTo_78 : decode cX9_nextTo 78 = .ok (.iadd, 1) := dk_96 (dk_at dksX9_nextTo_3 6 rfl rfl)
theorem dX9_nextTo_79 : decode cX9_nextTo 79 = .ok (.goto 4, 3) := dk_167 0 4 (dk_at dksX9_nextTo_3 7 rfl rfl)
theorem dX9_nextTo_82 : decode cX9_nextTo 82 = .ok (.iconst (-1), 1) := dk_2 (dk_at dksX9_nextTo_3 10 rfl rfl)
theorem dX9_nextTo_83 : decode cX9_nextTo 83 = .ok (.ireturn, 1) := dk_172 (dk_at dksX9_nextTo_3 11 rfl rfl)
abbrev cX9_costOf : ByteArray := prog_16_method_33_code
def yX9_costOf : MethodName := ⟨RX9, "costOf", "(II)I"⟩
def dkwX9_costOf_1 : List UInt8 := [62, 132, 4, 1, 167, 255, 233, 29, 172]
abbrev dktX9_costOf_1 : List UInt8 := dkwX9_costOf_1 ++ []
def dkwX9_costOf_0 : List UInt8 := [28, 62, 4, 54, 4, 21, 4, 28, 163, 0, 23, 29, 42, 42, 27, 21, 4, 182, 0, 129, 182, 0, 132, 96]
abbrev dktX9_costOf_0 : List UInt8 := dkwX9_costOf_0 ++ dktX9_costOf_1
theorem dksX9_costOf_0 : cX9_costOf.data.toList.drop 0 = dktX9_costOf_0 := by decide +kernel
theorem dksX9_costOf_1 : cX9_costOf.data.toList.drop 24 = dktX9_costOf_1 := dk_seg dksX9_costOf_0 24 rfl rfl
theorem dX9_costOf_0 : decode cX9_costOf 0 = .ok (.iload_n 2, 1) := dk_28 (dk_at dksX9_costOf_0 0 rfl rfl)
theorem dX9_costOf_1 : decode cX9_costOf 1 = .ok (.istore_n 3, 1) := dk_62 (dk_at dksX9_costOf_0 1 rfl rfl)
theorem dX9_costOf_2 : decode cX9_costOf 2 = .ok (.iconst 1, 1) := dk_4 (dk_at dksX9_costOf_0 2 rfl rfl)
theorem dX9_costOf_3 : decode cX9_costOf 3 = .ok (.istore 4, 2) := dk_54 4 (dk_at dksX9_costOf_0 3 rfl rfl)
theorem dX9_costOf_5 : decode cX9_costOf 5 = .ok (.iload 4, 2) := dk_21 4 (dk_at dksX9_costOf_0 5 rfl rfl)
theorem dX9_costOf_7 : decode cX9_costOf 7 = .ok (.iload_n 2, 1) := dk_28 (dk_at dksX9_costOf_0 7 rfl rfl)
theorem dX9_costOf_8 : decode cX9_costOf 8 = .ok (.if_icmp .gt 23, 3) := dk_163 0 23 (dk_at dksX9_costOf_0 8 rfl rfl)
theorem dX9_costOf_11 : decode cX9_costOf 11 = .ok (.iload_n 3, 1) := dk_29 (dk_at dksX9_costOf_0 11 rfl rfl)
theorem dX9_costOf_12 : decode cX9_costOf 12 = .ok (.aload_n 0, 1) := dk_42 (dk_at dksX9_costOf_0 12 rfl rfl)
theorem dX9_costOf_13 : decode cX9_costOf 13 = .ok (.aload_n 0, 1) := dk_42 (dk_at dksX9_costOf_0 13 rfl rfl)
theorem dX9_costOf_14 : decode cX9_costOf 14 = .ok (.iload_n 1, 1) := dk_27 (dk_at dksX9_costOf_0 14 rfl rfl)
theorem dX9_costOf_15 : decode cX9_costOf 15 = .ok (.iload 4, 2) := dk_21 4 (dk_at dksX9_costOf_0 15 rfl rfl)
theorem dX9_costOf_17 : decode cX9_costOf 17 = .ok (.invokevirtual 129, 3) := dk_182 0 129 (dk_at dksX9_costOf_0 17 rfl rfl)
theorem dX9_costOf_20 : decode cX9_costOf 20 = .ok (.invokevirtual 132, 3) := dk_182 0 132 (dk_at dksX9_costOf_0 20 rfl rfl)
theorem dX9_costOf_23 : decode cX9_costOf 23 = .ok (.iadd, 1) := dk_96 (dk_at dksX9_costOf_0 23 rfl rfl)
theorem dX9_costOf_24 : decode cX9_costOf 24 = .ok (.istore_n 3, 1) := dk_62 (dk_at dksX9_costOf_1 0 rfl rfl)
theorem dX9_costOf_25 : decode cX9_costOf 25 = .ok (.iinc 4 1, 3) := dk_132 4 1 (dk_at dksX9_costOf_1 1 rfl rfl)
theorem dX9_costOf_28 : decode cX9_costOf 28 = .ok (.goto (-23), 3) := dk_167 255 233 (dk_at dksX9_costOf_1 4 rfl rfl)
theorem dX9_costOf_31 : decode cX9_costOf 31 = .ok (.iload_n 3, 1) := dk_29 (dk_at dksX9_costOf_1 7 rfl rfl)
theorem dX9_costOf_32 : decode cX9_costOf 32 = .ok (.ireturn, 1) := dk_172 (dk_at dksX9_costOf_1 8 rfl rfl)
abbrev cX9_mistAt : ByteArray := prog_16_method_27_code
def yX9_mistAt : MethodName := ⟨RX9, "mistAt", "(I)I"⟩
def dkwX9_mistAt_2 : List UInt8 := [132, 3, 1, 167, 255, 210, 16, 9, 28, 184, 0, 110, 172]
abbrev dktX9_mistAt_2 : List UInt8 := dkwX9_mistAt_2 ++ []
def dkwX9_mistAt_1 : List UInt8 := [182, 0, 107, 42, 29, 4, 182, 0, 104, 163, 0, 12, 42, 29, 5, 182, 0, 104, 167, 0, 4, 3, 96, 61]
abbrev dktX9_mistAt_1 : List UInt8 := dkwX9_mistAt_1 ++ dktX9_mistAt_2
def dkwX9_mistAt_0 : List UInt8 := [3, 61, 3, 62, 29, 42, 180, 0, 7, 6, 46, 162, 0, 42, 28, 42, 27, 42, 29, 3, 182, 0, 104]
abbrev dktX9_mistAt_0 : List UInt8 := dkwX9_mistAt_0 ++ dktX9_mistAt_1
theorem dksX9_mistAt_0 : cX9_mistAt.data.toList.drop 0 = dktX9_mistAt_0 := by decide +kernel
theorem dksX9_mistAt_1 : cX9_mistAt.data.toList.drop 23 = dktX9_mistAt_1 := dk_seg dksX9_mistAt_0 23 rfl rfl
theorem dksX9_mistAt_2 : cX9_mistAt.data.toList.drop 47 = dktX9_mistAt_2 := dk_seg dksX9_mistAt_1 24 rfl rfl
theorem dX9_mistAt_0 : decode cX9_mistAt 0 = .ok (.iconst 0, 1) := dk_3 (dk_at dksX9_mistAt_0 0 rfl rfl)
theorem dX9_mistAt_1 : decode cX9_mistAt 1 = .ok (.istore_n 2, 1) := dk_61 (dk_at dksX9_mistAt_0 1 rfl rfl)
theorem dX9_mistAt_2 : decode cX9_mistAt 2 = .ok (.iconst 0, 1) := dk_3 (dk_at dksX9_mistAt_0 2 rfl rfl)
theorem dX9_mistAt_3 : decode cX9_mistAt 3 = .ok (.istore_n 3, 1) := dk_62 (dk_at dksX9_mistAt_0 3 rfl rfl)
theorem dX9_mistAt_4 : decode cX9_mistAt 4 = .ok (.iload_n 3, 1) := dk_29 (dk_at dksX9_mistAt_0 4 rfl rfl)
theorem dX9_mistAt_5 : decode cX9_mistAt 5 = .ok (.aload_n 0, 1) := dk_42 (dk_at dksX9_mistAt_0 5 rfl rfl)
theorem dX9_mistAt_6 : decode cX9_mistAt 6 = .ok (.getfield 7, 3) := dk_180 0 7 (dk_at dksX9_mistAt_0 6 rfl rfl)
theorem dX9_mistAt_9 : decode cX9_mistAt 9 = .ok (.iconst 3, 1) := dk_6 (dk_at dksX9_mistAt_0 9 rfl rfl)
theorem dX9_mistAt_10 : decode cX9_mistAt 10 = .ok (.iaload, 1) := dk_46 (dk_at dksX9_mistAt_0 10 rfl rfl)
theorem dX9_mistAt_11 : decode cX9_mistAt 11 = .ok (.if_icmp .ge 42, 3) := dk_162 0 42 (dk_at dksX9_mistAt_0 11 rfl rfl)
theorem dX9_mistAt_14 : decode cX9_mistAt 14 = .ok (.iload_n 2, 1) := dk_28 (dk_at dksX9_mistAt_0 14 rfl rfl)
theorem dX9_mistAt_15 : decode cX9_mistAt 15 = .ok (.aload_n 0, 1) := dk_42 (dk_at dksX9_mistAt_0 15 rfl rfl)
theorem dX9_mistAt_16 : decode cX9_mistAt 16 = .ok (.iload_n 1, 1) := dk_27 (dk_at dksX9_mistAt_0 16 rfl rfl)
theorem dX9_mistAt_17 : decode cX9_mistAt 17 = .ok (.aload_n 0, 1) := dk_42 (dk_at dksX9_mistAt_0 17 rfl rfl)
theorem dX9_mistAt_18 : decode cX9_mistAt 18 = .ok (.iload_n 3, 1) := dk_29 (dk_at dksX9_mistAt_0 18 rfl rfl)
theorem dX9_mistAt_19 : decode cX9_mistAt 19 = .ok (.iconst 0, 1) := dk_3 (dk_at dksX9_mistAt_0 19 rfl rfl)
theorem dX9_mistAt_20 : decode cX9_mistAt 20 = .ok (.invokevirtual 104, 3) := dk_182 0 104 (dk_at dksX9_mistAt_0 20 rfl rfl)
theorem dX9_mistAt_23 : decode cX9_mistAt 23 = .ok (.invokevirtual 107, 3) := dk_182 0 107 (dk_at dksX9_mistAt_1 0 rfl rfl)
theorem dX9_mistAt_26 : decode cX9_mistAt 26 = .ok (.aload_n 0, 1) := dk_42 (dk_at dksX9_mistAt_1 3 rfl rfl)
theorem dX9_mistAt_27 : decode cX9_mistAt 27 = .ok (.iload_n 3, 1) := dk_29 (dk_at dksX9_mistAt_1 4 rfl rfl)
theorem dX9_mistAt_28 : decode cX9_mistAt 28 = .ok (.iconst 1, 1) := dk_4 (dk_at dksX9_mistAt_1 5 rfl rfl)
theorem dX9_mistAt_29 : decode cX9_mistAt 29 = .ok (.invokevirtual 104, 3) := dk_182 0 104 (dk_at dksX9_mistAt_1 6 rfl rfl)
theorem dX9_mistAt_32 : decode cX9_mistAt 32 = .ok (.if_icmp .gt 12, 3) := dk_163 0 12 (dk_at dksX9_mistAt_1 9 rfl rfl)
theorem dX9_mistAt_35 : decode cX9_mistAt 35 = .ok (.aload_n 0, 1) := dk_42 (dk_at dksX9_mistAt_1 12 rfl rfl)
theorem dX9_mistAt_36 : decode cX9_mistAt 36 = .ok (.iload_n 3, 1) := dk_29 (dk_at dksX9_mistAt_1 13 rfl rfl)
theorem dX9_mistAt_37 : decode cX9_mistAt 37 = .ok (.iconst 2, 1) := dk_5 (dk_at dksX9_mistAt_1 14 rfl rfl)
theorem dX9_mistAt_38 : decode cX9_mistAt 38 = .ok (.invokevirtual 104, 3) := dk_182 0 104 (dk_at dksX9_mistAt_1 15 rfl rfl)
theorem dX9_mistAt_41 : decode cX9_mistAt 41 = .ok (.goto 4, 3) := dk_167 0 4 (dk_at dksX9_mistAt_1 18 rfl rfl)
theorem dX9_mistAt_44 : decode cX9_mistAt 44 = .ok (.iconst 0, 1) := dk_3 (dk_at dksX9_mistAt_1 21 rfl rfl)
theorem dX9_mistAt_45 : decode cX9_mistAt 45 = .ok (.iadd, 1) := dk_96 (dk_at dksX9_mistAt_1 22 rfl rfl)
theorem dX9_mistAt_46 : decode cX9_mistAt 46 = .ok (.istore_n 2, 1) := dk_61 (dk_at dksX9_mistAt_1 23 rfl rfl)
theorem dX9_mistAt_47 : decode cX9_mistAt 47 = .ok (.iinc 3 1, 3) := dk_132 3 1 (dk_at dksX9_mistAt_2 0 rfl rfl)
theorem dX9_mistAt_50 : decode cX9_mistAt 50 = .ok (.goto (-46), 3) := dk_167 255 210 (dk_at dksX9_mistAt_2 3 rfl rfl)
theorem dX9_mistAt_53 : decode cX9_mistAt 53 = .ok (.bipush 9, 2) := dk_16 9 (dk_at dksX9_mistAt_2 6 rfl rfl)
theorem dX9_mistAt_55 : decode cX9_mistAt 55 = .ok (.iload_n 2, 1) := dk_28 (dk_at dksX9_mistAt_2 8 rfl rfl)
theorem dX9_mistAt_56 : decode cX9_mistAt 56 = .ok (.invokestatic 110, 3) := dk_184 0 110 (dk_at dksX9_mistAt_2 9 rfl rfl)
theorem dX9_mistAt_59 : decode cX9_mistAt 59 = .ok (.ireturn, 1) := dk_172 (dk_at dksX9_mistAt_2 12 rfl rfl)
abbrev cX9_away : ByteArray := prog_16_method_26_code
def yX9_away : MethodName := ⟨RX9, "away", "(II)I"⟩
def dkwX9_away_1 : List UInt8 := [100, 184, 0, 96, 96, 172]
abbrev dktX9_away_1 : List UInt8 := dkwX9_away_1 ++ []
def dkwX9_away_0 : List UInt8 := [42, 27, 182, 0, 92, 42, 28, 182, 0, 92, 100, 184, 0, 96, 42, 27, 182, 0, 101, 42, 28, 182, 0, 101]
abbrev dktX9_away_0 : List UInt8 := dkwX9_away_0 ++ dktX9_away_1
theorem dksX9_away_0 : cX9_away.data.toList.drop 0 = dktX9_away_0 := by decide +kernel
theorem dksX9_away_1 : cX9_away.data.toList.drop 24 = dktX9_away_1 := dk_seg dksX9_away_0 24 rfl rfl
theorem dX9_away_0 : decode cX9_away 0 = .ok (.aload_n 0, 1) := dk_42 (dk_at dksX9_away_0 0 rfl rfl)
theorem dX9_away_1 : decode cX9_away 1 = .ok (.iload_n 1, 1) := dk_27 (dk_at dksX9_away_0 1 rfl rfl)
theorem dX9_away_2 : decode cX9_away 2 = .ok (.invokevirtual 92, 3) := dk_182 0 92 (dk_at dksX9_away_0 2 rfl rfl)
theorem dX9_away_5 : decode cX9_away 5 = .ok (.aload_n 0, 1) := dk_42 (dk_at dksX9_away_0 5 rfl rfl)
theorem dX9_away_6 : decode cX9_away 6 = .ok (.iload_n 2, 1) := dk_28 (dk_at dksX9_away_0 6 rfl rfl)
theorem dX9_away_7 : decode cX9_away 7 = .ok (.invokevirtual 92, 3) := dk_182 0 92 (dk_at dksX9_away_0 7 rfl rfl)
theorem dX9_away_10 : decode cX9_away 10 = .ok (.isub, 1) := dk_100 (dk_at dksX9_away_0 10 rfl rfl)
theorem dX9_away_11 : decode cX9_away 11 = .ok (.invokestatic 96, 3) := dk_184 0 96 (dk_at dksX9_away_0 11 rfl rfl)
theorem dX9_away_14 : decode cX9_away 14 = .ok (.aload_n 0, 1) := dk_42 (dk_at dksX9_away_0 14 rfl rfl)
theorem dX9_away_15 : decode cX9_away 15 = .ok (.iload_n 1, 1) := dk_27 (dk_at dksX9_away_0 15 rfl rfl)
theorem dX9_away_16 : decode cX9_away 16 = .ok (.invokevirtual 101, 3) := dk_182 0 101 (dk_at dksX9_away_0 16 rfl rfl)
theorem dX9_away_19 : decode cX9_away 19 = .ok (.aload_n 0, 1) := dk_42 (dk_at dksX9_away_0 19 rfl rfl)
theorem dX9_away_20 : decode cX9_away 20 = .ok (.iload_n 2, 1) := dk_28 (dk_at dksX9_away_0 20 rfl rfl)
theorem dX9_away_21 : decode cX9_away 21 = .ok (.invokevirtual 101, 3) := dk_182 0 101 (dk_at dksX9_away_0 21 rfl rfl)
theorem dX9_away_24 : decode cX9_away 24 = .ok (.isub, 1) := dk_100 (dk_at dksX9_away_1 0 rfl rfl)
theorem dX9_away_25 : decode cX9_away 25 = .ok (.invokestatic 96, 3) := dk_184 0 96 (dk_at dksX9_away_1 1 rfl rfl)
theorem dX9_away_28 : decode cX9_away 28 = .ok (.iadd, 1) := dk_96 (dk_at dksX9_away_1 4 rfl rfl)
theorem dX9_away_29 : decode cX9_away 29 = .ok (.ireturn, 1) := dk_172 (dk_at dksX9_away_1 5 rfl rfl)
abbrev cX9_catchIt : ByteArray := prog_16_method_41_code
def yX9_catchIt : MethodName := ⟨RX9, "catchIt", "(I)V"⟩
def dkwX9_catchIt_2 : List UInt8 := [5, 6, 182, 0, 74, 42, 28, 7, 2, 182, 0, 74, 132, 2, 1, 167, 255, 219, 177]
abbrev dktX9_catchIt_2 : List UInt8 := dkwX9_catchIt_2 ++ []
def dkwX9_catchIt_1 : List UInt8 := [3, 61, 28, 42, 180, 0, 7, 16, 6, 46, 162, 0, 32, 42, 28, 27, 182, 0, 157, 153, 0, 17, 42, 28]
abbrev dktX9_catchIt_1 : List UInt8 := dkwX9_catchIt_1 ++ dktX9_catchIt_2
def dkwX9_catchIt_0 : List UInt8 := [42, 27, 7, 182, 0, 151, 42, 8, 4, 182, 0, 154, 42, 27, 3, 42, 27, 4, 182, 0, 80, 182, 0, 70]
abbrev dktX9_catchIt_0 : List UInt8 := dkwX9_catchIt_0 ++ dktX9_catchIt_1
theorem dksX9_catchIt_0 : cX9_catchIt.data.toList.drop 0 = dktX9_catchIt_0 := by decide +kernel
theorem dksX9_catchIt_1 : cX9_catchIt.data.toList.drop 24 = dktX9_catchIt_1 := dk_seg dksX9_catchIt_0 24 rfl rfl
theorem dksX9_catchIt_2 : cX9_catchIt.data.toList.drop 48 = dktX9_catchIt_2 := dk_seg dksX9_catchIt_1 24 rfl rfl
theorem dX9_catchIt_0 : decode cX9_catchIt 0 = .ok (.aload_n 0, 1) := dk_42 (dk_at dksX9_catchIt_0 0 rfl rfl)
theorem dX9_catchIt_1 : decode cX9_catchIt 1 = .ok (.iload_n 1, 1) := dk_27 (dk_at dksX9_catchIt_0 1 rfl rfl)
theorem dX9_catchIt_2 : decode cX9_catchIt 2 = .ok (.iconst 4, 1) := dk_7 (dk_at dksX9_catchIt_0 2 rfl rfl)
theorem dX9_catchIt_3 : decode cX9_catchIt 3 = .ok (.invokevirtual 151, 3) := dk_182 0 151 (dk_at dksX9_catchIt_0 3 rfl rfl)
theorem dX9_catchIt_6 : decode cX9_catchIt 6 = .ok (.aload_n 0, 1) := dk_42 (dk_at dksX9_catchIt_0 6 rfl rfl)
theorem dX9_catchIt_7 : decode cX9_catchIt 7 = .ok (.iconst 5, 1) := dk_8 (dk_at dksX9_catchIt_0 7 rfl rfl)
theorem dX9_catchIt_8 : decode cX9_catchIt 8 = .ok (.iconst 1, 1) := dk_4 (dk_at dksX9_catchIt_0 8 rfl rfl)
theorem dX9_catchIt_9 : decode cX9_catchIt 9 = .ok (.invokevirtual 154, 3) := dk_182 0 154 (dk_at dksX9_catchIt_0 9 rfl rfl)
theorem dX9_catchIt_12 : decode cX9_catchIt 12 = .ok (.aload_n 0, 1) := dk_42 (dk_at dksX9_catchIt_0 12 rfl rfl)
theorem dX9_catchIt_13 : decode cX9_catchIt 13 = .ok (.iload_n 1, 1) := dk_27 (dk_at dksX9_catchIt_0 13 rfl rfl)
theorem dX9_catchIt_14 : decode cX9_catchIt 14 = .ok (.iconst 0, 1) := dk_3 (dk_at dksX9_catchIt_0 14 rfl rfl)
theorem dX9_catchIt_15 : decode cX9_catchIt 15 = .ok (.aload_n 0, 1) := dk_42 (dk_at dksX9_catchIt_0 15 rfl rfl)
theorem dX9_catchIt_16 : decode cX9_catchIt 16 = .ok (.iload_n 1, 1) := dk_27 (dk_at dksX9_catchIt_0 16 rfl rfl)
theorem dX9_catchIt_17 : decode cX9_catchIt 17 = .ok (.iconst 1, 1) := dk_4 (dk_at dksX9_catchIt_0 17 rfl rfl)
theorem dX9_catchIt_18 : decode cX9_catchIt 18 = .ok (.invokevirtual 80, 3) := dk_182 0 80 (dk_at dksX9_catchIt_0 18 rfl rfl)
theorem dX9_catchIt_21 : decode cX9_catchIt 21 = .ok (.invokevirtual 70, 3) := dk_182 0 70 (dk_at dksX9_catchIt_0 21 rfl rfl)
theorem dX9_catchIt_24 : decode cX9_catchIt 24 = .ok (.iconst 0, 1) := dk_3 (dk_at dksX9_catchIt_1 0 rfl rfl)
theorem dX9_catchIt_25 : decode cX9_catchIt 25 = .ok (.istore_n 2, 1) := dk_61 (dk_at dksX9_catchIt_1 1 rfl rfl)
theorem dX9_catchIt_26 : decode cX9_catchIt 26 = .ok (.iload_n 2, 1) := dk_28 (dk_at dksX9_catchIt_1 2 rfl rfl)
theorem dX9_catchIt_27 : decode cX9_catchIt 27 = .ok (.aload_n 0, 1) := dk_42 (dk_at dksX9_catchIt_1 3 rfl rfl)
theorem dX9_catchIt_28 : decode cX9_catchIt 28 = .ok (.getfield 7, 3) := dk_180 0 7 (dk_at dksX9_catchIt_1 4 rfl rfl)
theorem dX9_catchIt_31 : decode cX9_catchIt 31 = .ok (.bipush 6, 2) := dk_16 6 (dk_at dksX9_catchIt_1 7 rfl rfl)
theorem dX9_catchIt_33 : decode cX9_catchIt 33 = .ok (.iaload, 1) := dk_46 (dk_at dksX9_catchIt_1 9 rfl rfl)
theorem dX9_catchIt_34 : decode cX9_catchIt 34 = .ok (.if_icmp .ge 32, 3) := dk_162 0 32 (dk_at dksX9_catchIt_1 10 rfl rfl)
theorem dX9_catchIt_37 : decode cX9_catchIt 37 = .ok (.aload_n 0, 1) := dk_42 (dk_at dksX9_catchIt_1 13 rfl rfl)
theorem dX9_catchIt_38 : decode cX9_catchIt 38 = .ok (.iload_n 2, 1) := dk_28 (dk_at dksX9_catchIt_1 14 rfl rfl)
theorem dX9_catchIt_39 : decode cX9_catchIt 39 = .ok (.iload_n 1, 1) := dk_27 (dk_at dksX9_catchIt_1 15 rfl rfl)
theorem dX9_catchIt_40 : decode cX9_catchIt 40 = .ok (.invokevirtual 157, 3) := dk_182 0 157 (dk_at dksX9_catchIt_1 16 rfl rfl)
theorem dX9_catchIt_43 : decode cX9_catchIt 43 = .ok (.ifCond .eq 17, 3) := dk_153 0 17 (dk_at dksX9_catchIt_1 19 rfl rfl)
theorem dX9_catchIt_46 : decode cX9_catchIt 46 = .ok (.aload_n 0, 1) := dk_42 (dk_at dksX9_catchIt_1 22 rfl rfl)
theorem dX9_catchIt_47 : decode cX9_catchIt 47 = .ok (.iload_n 2, 1) := dk_28 (dk_at dksX9_catchIt_1 23 rfl rfl)
theorem dX9_catchIt_48 : decode cX9_catchIt 48 = .ok (.iconst 2, 1) := dk_5 (dk_at dksX9_catchIt_2 0 rfl rfl)
theorem dX9_catchIt_49 : decode cX9_catchIt 49 = .ok (.iconst 3, 1) := dk_6 (dk_at dksX9_catchIt_2 1 rfl rfl)
theorem dX9_catchIt_50 : decode cX9_catchIt 50 = .ok (.invokevirtual 74, 3) := dk_182 0 74 (dk_at dksX9_catchIt_2 2 rfl rfl)
theorem dX9_catchIt_53 : decode cX9_catchIt 53 = .ok (.aload_n 0, 1) := dk_42 (dk_at dksX9_catchIt_2 5 rfl rfl)
theorem dX9_catchIt_54 : decode cX9_catchIt 54 = .ok (.iload_n 2, 1) := dk_28 (dk_at dksX9_catchIt_2 6 rfl rfl)
theorem dX9_catchIt_55 : decode cX9_catchIt 55 = .ok (.iconst 4, 1) := dk_7 (dk_at dksX9_catchIt_2 7 rfl rfl)
theorem dX9_catchIt_56 : decode cX9_catchIt 56 = .ok (.iconst (-1), 1) := dk_2 (dk_at dksX9_catchIt_2 8 rfl rfl)
theorem dX9_catchIt_57 : decode cX9_catchIt 57 = .ok (.invokevirtual 74, 3) := dk_182 0 74 (dk_at dksX9_catchIt_2 9 rfl rfl)
theorem dX9_catchIt_60 : decode cX9_catchIt 60 = .ok (.iinc 2 1, 3) := dk_132 2 1 (dk_at dksX9_catchIt_2 12 rfl rfl)
theorem dX9_catchIt_63 : decode cX9_catchIt 63 = .ok (.goto (-37), 3) := dk_167 255 219 (dk_at dksX9_catchIt_2 15 rfl rfl)
theorem dX9_catchIt_66 : decode cX9_catchIt 66 = .ok (.return_, 1) := dk_177 (dk_at dksX9_catchIt_2 18 rfl rfl)
abbrev cX9_grow : ByteArray := prog_16_method_15_code
def yX9_grow : MethodName := ⟨RX9, "grow", "(II)V"⟩
def dkwX9_grow_0 : List UInt8 := [42, 27, 28, 42, 27, 28, 182, 0, 80, 4, 96, 182, 0, 70, 177]
abbrev dktX9_grow_0 : List UInt8 := dkwX9_grow_0 ++ []
theorem dksX9_grow_0 : cX9_grow.data.toList.drop 0 = dktX9_grow_0 := by decide +kernel
theorem dX9_grow_0 : decode cX9_grow 0 = .ok (.aload_n 0, 1) := dk_42 (dk_at dksX9_grow_0 0 rfl rfl)
theorem dX9_grow_1 : decode cX9_grow 1 = .ok (.iload_n 1, 1) := dk_27 (dk_at dksX9_grow_0 1 rfl rfl)
theorem dX9_grow_2 : decode cX9_grow 2 = .ok (.iload_n 2, 1) := dk_28 (dk_at dksX9_grow_0 2 rfl rfl)
theorem dX9_grow_3 : decode cX9_grow 3 = .ok (.aload_n 0, 1) := dk_42 (dk_at dksX9_grow_0 3 rfl rfl)
theorem dX9_grow_4 : decode cX9_grow 4 = .ok (.iload_n 1, 1) := dk_27 (dk_at dksX9_grow_0 4 rfl rfl)
theorem dX9_grow_5 : decode cX9_grow 5 = .ok (.iload_n 2, 1) := dk_28 (dk_at dksX9_grow_0 5 rfl rfl)
theorem dX9_grow_6 : decode cX9_grow 6 = .ok (.invokevirtual 80, 3) := dk_182 0 80 (dk_at dksX9_grow_0 6 rfl rfl)
theorem dX9_grow_9 : decode cX9_grow 9 = .ok (.iconst 1, 1) := dk_4 (dk_at dksX9_grow_0 9 rfl rfl)
theorem dX9_grow_10 : decode cX9_grow 10 = .ok (.iadd, 1) := dk_96 (dk_at dksX9_grow_0 10 rfl rfl)
theorem dX9_grow_11 : decode cX9_grow 11 = .ok (.invokevirtual 70, 3) := dk_182 0 70 (dk_at dksX9_grow_0 11 rfl rfl)
theorem dX9_grow_14 : decode cX9_grow 14 = .ok (.return_, 1) := dk_177 (dk_at dksX9_grow_0 14 rfl rfl)
abbrev cX9_count : ByteArray := prog_16_method_10_code
def yX9_count : MethodName := ⟨RX9, "count", "(II)V"⟩
def dkwX9_count_0 : List UInt8 := [42, 180, 0, 7, 16, 8, 27, 96, 92, 46, 28, 96, 79, 177]
abbrev dktX9_count_0 : List UInt8 := dkwX9_count_0 ++ []
theorem dksX9_count_0 : cX9_count.data.toList.drop 0 = dktX9_count_0 := by decide +kernel
theorem dX9_count_0 : decode cX9_count 0 = .ok (.aload_n 0, 1) := dk_42 (dk_at dksX9_count_0 0 rfl rfl)
theorem dX9_count_1 : decode cX9_count 1 = .ok (.getfield 7, 3) := dk_180 0 7 (dk_at dksX9_count_0 1 rfl rfl)
theorem dX9_count_4 : decode cX9_count 4 = .ok (.bipush 8, 2) := dk_16 8 (dk_at dksX9_count_0 4 rfl rfl)
theorem dX9_count_6 : decode cX9_count 6 = .ok (.iload_n 1, 1) := dk_27 (dk_at dksX9_count_0 6 rfl rfl)
theorem dX9_count_7 : decode cX9_count 7 = .ok (.iadd, 1) := dk_96 (dk_at dksX9_count_0 7 rfl rfl)
theorem dX9_count_8 : decode cX9_count 8 = .ok (.dup2, 1) := dk_92 (dk_at dksX9_count_0 8 rfl rfl)
theorem dX9_count_9 : decode cX9_count 9 = .ok (.iaload, 1) := dk_46 (dk_at dksX9_count_0 9 rfl rfl)
theorem dX9_count_10 : decode cX9_count 10 = .ok (.iload_n 2, 1) := dk_28 (dk_at dksX9_count_0 10 rfl rfl)
theorem dX9_count_11 : decode cX9_count 11 = .ok (.iadd, 1) := dk_96 (dk_at dksX9_count_0 11 rfl rfl)
theorem dX9_count_12 : decode cX9_count 12 = .ok (.iastore, 1) := dk_79 (dk_at dksX9_count_0 12 rfl rfl)
theorem dX9_count_13 : decode cX9_count 13 = .ok (.return_, 1) := dk_177 (dk_at dksX9_count_0 13 rfl rfl)
abbrev cX9_isCarried : ByteArray := prog_16_method_42_code
def yX9_isCarried : MethodName := ⟨RX9, "isCarried", "(II)Z"⟩
def dkwX9_isCarried_1 : List UInt8 := [3, 172]
abbrev dktX9_isCarried_1 : List UInt8 := dkwX9_isCarried_1 ++ []
def dkwX9_isCarried_0 : List UInt8 := [42, 27, 5, 182, 0, 160, 4, 160, 0, 17, 42, 27, 7, 182, 0, 160, 28, 160, 0, 7, 4, 167, 0, 4]
abbrev dktX9_isCarried_0 : List UInt8 := dkwX9_isCarried_0 ++ dktX9_isCarried_1
theorem dksX9_isCarried_0 : cX9_isCarried.data.toList.drop 0 = dktX9_isCarried_0 := by decide +kernel
theorem dksX9_isCarried_1 : cX9_isCarried.data.toList.drop 24 = dktX9_isCarried_1 := dk_seg dksX9_isCarried_0 24 rfl rfl
theorem dX9_isCarried_0 : decode cX9_isCarried 0 = .ok (.aload_n 0, 1) := dk_42 (dk_at dksX9_isCarried_0 0 rfl rfl)
theorem dX9_isCarried_1 : decode cX9_isCarried 1 = .ok (.iload_n 1, 1) := dk_27 (dk_at dksX9_isCarried_0 1 rfl rfl)
theorem dX9_isCarried_2 : decode cX9_isCarried 2 = .ok (.iconst 2, 1) := dk_5 (dk_at dksX9_isCarried_0 2 rfl rfl)
theorem dX9_isCarried_3 : decode cX9_isCarried 3 = .ok (.invokevirtual 160, 3) := dk_182 0 160 (dk_at dksX9_isCarried_0 3 rfl rfl)
theorem dX9_isCarried_6 : decode cX9_isCarried 6 = .ok (.iconst 1, 1) := dk_4 (dk_at dksX9_isCarried_0 6 rfl rfl)
theorem dX9_isCarried_7 : decode cX9_isCarried 7 = .ok (.if_icmp .ne 17, 3) := dk_160 0 17 (dk_at dksX9_isCarried_0 7 rfl rfl)
theorem dX9_isCarried_10 : decode cX9_isCarried 10 = .ok (.aload_n 0, 1) := dk_42 (dk_at dksX9_isCarried_0 10 rfl rfl)
theorem dX9_isCarried_11 : decode cX9_isCarried 11 = .ok (.iload_n 1, 1) := dk_27 (dk_at dksX9_isCarried_0 11 rfl rfl)
theorem dX9_isCarried_12 : decode cX9_isCarried 12 = .ok (.iconst 4, 1) := dk_7 (dk_at dksX9_isCarried_0 12 rfl rfl)
theorem dX9_isCarried_13 : decode cX9_isCarried 13 = .ok (.invokevirtual 160, 3) := dk_182 0 160 (dk_at dksX9_isCarried_0 13 rfl rfl)
theorem dX9_isCarried_16 : decode cX9_isCarried 16 = .ok (.iload_n 2, 1) := dk_28 (dk_at dksX9_isCarried_0 16 rfl rfl)
theorem dX9_isCarried_17 : decode cX9_isCarried 17 = .ok (.if_icmp .ne 7, 3) := dk_160 0 7 (dk_at dksX9_isCarried_0 17 rfl rfl)
theorem dX9_isCarried_20 : decode cX9_isCarried 20 = .ok (.iconst 1, 1) := dk_4 (dk_at dksX9_isCarried_0 20 rfl rfl)
theorem dX9_isCarried_21 : decode cX9_isCarried 21 = .ok (.goto 4, 3) := dk_167 0 4 (dk_at dksX9_isCarried_0 21 rfl rfl)
theorem dX9_isCarried_24 : decode cX9_isCarried 24 = .ok (.iconst 0, 1) := dk_3 (dk_at dksX9_isCarried_1 0 rfl rfl)
theorem dX9_isCarried_25 : decode cX9_isCarried 25 = .ok (.ireturn, 1) := dk_172 (dk_at dksX9_isCarried_1 1 rfl rfl)
abbrev cX9_isCourier : ByteArray := prog_16_method_21_code
def yX9_isCourier : MethodName := ⟨RX9, "isCourier", "(I)Z"⟩
def dkwX9_isCourier_0 : List UInt8 := [27, 3, 42, 180, 0, 7, 8, 46, 4, 100, 184, 0, 88, 172]
abbrev dktX9_isCourier_0 : List UInt8 := dkwX9_isCourier_0 ++ []
theorem dksX9_isCourier_0 : cX9_isCourier.data.toList.drop 0 = dktX9_isCourier_0 := by decide +kernel
theorem dX9_isCourier_0 : decode cX9_isCourier 0 = .ok (.iload_n 1, 1) := dk_27 (dk_at dksX9_isCourier_0 0 rfl rfl)
theorem dX9_isCourier_1 : decode cX9_isCourier 1 = .ok (.iconst 0, 1) := dk_3 (dk_at dksX9_isCourier_0 1 rfl rfl)
theorem dX9_isCourier_2 : decode cX9_isCourier 2 = .ok (.aload_n 0, 1) := dk_42 (dk_at dksX9_isCourier_0 2 rfl rfl)
theorem dX9_isCourier_3 : decode cX9_isCourier 3 = .ok (.getfield 7, 3) := dk_180 0 7 (dk_at dksX9_isCourier_0 3 rfl rfl)
theorem dX9_isCourier_6 : decode cX9_isCourier 6 = .ok (.iconst 5, 1) := dk_8 (dk_at dksX9_isCourier_0 6 rfl rfl)
theorem dX9_isCourier_7 : decode cX9_isCourier 7 = .ok (.iaload, 1) := dk_46 (dk_at dksX9_isCourier_0 7 rfl rfl)
theorem dX9_isCourier_8 : decode cX9_isCourier 8 = .ok (.iconst 1, 1) := dk_4 (dk_at dksX9_isCourier_0 8 rfl rfl)
theorem dX9_isCourier_9 : decode cX9_isCourier 9 = .ok (.isub, 1) := dk_100 (dk_at dksX9_isCourier_0 9 rfl rfl)
theorem dX9_isCourier_10 : decode cX9_isCourier 10 = .ok (.invokestatic 88, 3) := dk_184 0 88 (dk_at dksX9_isCourier_0 10 rfl rfl)
theorem dX9_isCourier_13 : decode cX9_isCourier 13 = .ok (.ireturn, 1) := dk_172 (dk_at dksX9_isCourier_0 13 rfl rfl)
abbrev cX9_stepIt : ByteArray := prog_16_method_128_code
def yX9_stepIt : MethodName := ⟨RX9, "stepIt", "(II)I"⟩
def dkwX9_stepIt_3 : List UInt8 := [153, 0, 7, 4, 167, 0, 4, 3, 182, 0, 154, 21, 4, 172]
abbrev dktX9_stepIt_3 : List UInt8 := dkwX9_stepIt_3 ++ []
def dkwX9_stepIt_2 : List UInt8 := [182, 0, 70, 42, 27, 6, 182, 0, 151, 42, 3, 4, 182, 0, 154, 42, 16, 6, 42, 21, 4, 182, 1, 124]
abbrev dktX9_stepIt_2 : List UInt8 := dkwX9_stepIt_2 ++ dktX9_stepIt_3
def dkwX9_stepIt_1 : List UInt8 := [3, 182, 0, 80, 28, 182, 0, 122, 54, 4, 42, 27, 3, 21, 4, 182, 0, 70, 42, 27, 5, 4]
abbrev dktX9_stepIt_1 : List UInt8 := dkwX9_stepIt_1 ++ dktX9_stepIt_2
def dkwX9_stepIt_0 : List UInt8 := [42, 27, 28, 182, 1, 184, 62, 29, 158, 0, 9, 42, 29, 182, 1, 187, 172, 42, 182, 1, 190, 42, 42, 27]
abbrev dktX9_stepIt_0 : List UInt8 := dkwX9_stepIt_0 ++ dktX9_stepIt_1
theorem dksX9_stepIt_0 : cX9_stepIt.data.toList.drop 0 = dktX9_stepIt_0 := by decide +kernel
theorem dksX9_stepIt_1 : cX9_stepIt.data.toList.drop 24 = dktX9_stepIt_1 := dk_seg dksX9_stepIt_0 24 rfl rfl
theorem dksX9_stepIt_2 : cX9_stepIt.data.toList.drop 46 = dktX9_stepIt_2 := dk_seg dksX9_stepIt_1 22 rfl rfl
theorem dksX9_stepIt_3 : cX9_stepIt.data.toList.drop 70 = dktX9_stepIt_3 := dk_seg dksX9_stepIt_2 24 rfl rfl
theorem dX9_stepIt_0 : decode cX9_stepIt 0 = .ok (.aload_n 0, 1) := dk_42 (dk_at dksX9_stepIt_0 0 rfl rfl)
theorem dX9_stepIt_1 : decode cX9_stepIt 1 = .ok (.iload_n 1, 1) := dk_27 (dk_at dksX9_stepIt_0 1 rfl rfl)
theorem dX9_stepIt_2 : decode cX9_stepIt 2 = .ok (.iload_n 2, 1) := dk_28 (dk_at dksX9_stepIt_0 2 rfl rfl)
theorem dX9_stepIt_3 : decode cX9_stepIt 3 = .ok (.invokevirtual 440, 3) := dk_182 1 184 (dk_at dksX9_stepIt_0 3 rfl rfl)
theorem dX9_stepIt_6 : decode cX9_stepIt 6 = .ok (.istore_n 3, 1) := dk_62 (dk_at dksX9_stepIt_0 6 rfl rfl)
theorem dX9_stepIt_7 : decode cX9_stepIt 7 = .ok (.iload_n 3, 1) := dk_29 (dk_at dksX9_stepIt_0 7 rfl rfl)
theorem dX9_stepIt_8 : decode cX9_stepIt 8 = .ok (.ifCond .le 9, 3) := dk_158 0 9 (dk_at dksX9_stepIt_0 8 rfl rfl)
theorem dX9_stepIt_11 : decode cX9_stepIt 11 = .ok (.aload_n 0, 1) := dk_42 (dk_at dksX9_stepIt_0 11 rfl rfl)
theorem dX9_stepIt_12 : decode cX9_stepIt 12 = .ok (.iload_n 3, 1) := dk_29 (dk_at dksX9_stepIt_0 12 rfl rfl)
theorem dX9_stepIt_13 : decode cX9_stepIt 13 = .ok (.invokevirtual 443, 3) := dk_182 1 187 (dk_at dksX9_stepIt_0 13 rfl rfl)
theorem dX9_stepIt_16 : decode cX9_stepIt 16 = .ok (.ireturn, 1) := dk_172 (dk_at dksX9_stepIt_0 16 rfl rfl)
theorem dX9_stepIt_17 : decode cX9_stepIt 17 = .ok (.aload_n 0, 1) := dk_42 (dk_at dksX9_stepIt_0 17 rfl rfl)
theorem dX9_stepIt_18 : decode cX9_stepIt 18 = .ok (.invokevirtual 446, 3) := dk_182 1 190 (dk_at dksX9_stepIt_0 18 rfl rfl)
theorem dX9_stepIt_21 : decode cX9_stepIt 21 = .ok (.aload_n 0, 1) := dk_42 (dk_at dksX9_stepIt_0 21 rfl rfl)
theorem dX9_stepIt_22 : decode cX9_stepIt 22 = .ok (.aload_n 0, 1) := dk_42 (dk_at dksX9_stepIt_0 22 rfl rfl)
theorem dX9_stepIt_23 : decode cX9_stepIt 23 = .ok (.iload_n 1, 1) := dk_27 (dk_at dksX9_stepIt_0 23 rfl rfl)
theorem dX9_stepIt_24 : decode cX9_stepIt 24 = .ok (.iconst 0, 1) := dk_3 (dk_at dksX9_stepIt_1 0 rfl rfl)
theorem dX9_stepIt_25 : decode cX9_stepIt 25 = .ok (.invokevirtual 80, 3) := dk_182 0 80 (dk_at dksX9_stepIt_1 1 rfl rfl)
theorem dX9_stepIt_28 : decode cX9_stepIt 28 = .ok (.iload_n 2, 1) := dk_28 (dk_at dksX9_stepIt_1 4 rfl rfl)
theorem dX9_stepIt_29 : decode cX9_stepIt 29 = .ok (.invokevirtual 122, 3) := dk_182 0 122 (dk_at dksX9_stepIt_1 5 rfl rfl)
theorem dX9_stepIt_32 : decode cX9_stepIt 32 = .ok (.istore 4, 2) := dk_54 4 (dk_at dksX9_stepIt_1 8 rfl rfl)
theorem dX9_stepIt_34 : decode cX9_stepIt 34 = .ok (.aload_n 0, 1) := dk_42 (dk_at dksX9_stepIt_1 10 rfl rfl)
theorem dX9_stepIt_35 : decode cX9_stepIt 35 = .ok (.iload_n 1, 1) := dk_27 (dk_at dksX9_stepIt_1 11 rfl rfl)
theorem dX9_stepIt_36 : decode cX9_stepIt 36 = .ok (.iconst 0, 1) := dk_3 (dk_at dksX9_stepIt_1 12 rfl rfl)
theorem dX9_stepIt_37 : decode cX9_stepIt 37 = .ok (.iload 4, 2) := dk_21 4 (dk_at dksX9_stepIt_1 13 rfl rfl)
theorem dX9_stepIt_39 : decode cX9_stepIt 39 = .ok (.invokevirtual 70, 3) := dk_182 0 70 (dk_at dksX9_stepIt_1 15 rfl rfl)
theorem dX9_stepIt_42 : decode cX9_stepIt 42 = .ok (.aload_n 0, 1) := dk_42 (dk_at dksX9_stepIt_1 18 rfl rfl)
theorem dX9_stepIt_43 : decode cX9_stepIt 43 = .ok (.iload_n 1, 1) := dk_27 (dk_at dksX9_stepIt_1 19 rfl rfl)
theorem dX9_stepIt_44 : decode cX9_stepIt 44 = .ok (.iconst 2, 1) := dk_5 (dk_at dksX9_stepIt_1 20 rfl rfl)
theorem dX9_stepIt_45 : decode cX9_stepIt 45 = .ok (.iconst 1, 1) := dk_4 (dk_at dksX9_stepIt_1 21 rfl rfl)
theorem dX9_stepIt_46 : decode cX9_stepIt 46 = .ok (.invokevirtual 70, 3) := dk_182 0 70 (dk_at dksX9_stepIt_2 0 rfl rfl)
theorem dX9_stepIt_49 : decode cX9_stepIt 49 = .ok (.aload_n 0, 1) := dk_42 (dk_at dksX9_stepIt_2 3 rfl rfl)
theorem dX9_stepIt_50 : decode cX9_stepIt 50 = .ok (.iload_n 1, 1) := dk_27 (dk_at dksX9_stepIt_2 4 rfl rfl)
theorem dX9_stepIt_51 : decode cX9_stepIt 51 = .ok (.iconst 3, 1) := dk_6 (dk_at dksX9_stepIt_2 5 rfl rfl)
theorem dX9_stepIt_52 : decode cX9_stepIt 52 = .ok (.invokevirtual 151, 3) := dk_182 0 151 (dk_at dksX9_stepIt_2 6 rfl rfl)
theorem dX9_stepIt_55 : decode cX9_stepIt 55 = .ok (.aload_n 0, 1) := dk_42 (dk_at dksX9_stepIt_2 9 rfl rfl)
theorem dX9_stepIt_56 : decode cX9_stepIt 56 = .ok (.iconst 0, 1) := dk_3 (dk_at dksX9_stepIt_2 10 rfl rfl)
theorem dX9_stepIt_57 : decode cX9_stepIt 57 = .ok (.iconst 1, 1) := dk_4 (dk_at dksX9_stepIt_2 11 rfl rfl)
theorem dX9_stepIt_58 : decode cX9_stepIt 58 = .ok (.invokevirtual 154, 3) := dk_182 0 154 (dk_at dksX9_stepIt_2 12 rfl rfl)
theorem dX9_stepIt_61 : decode cX9_stepIt 61 = .ok (.aload_n 0, 1) := dk_42 (dk_at dksX9_stepIt_2 15 rfl rfl)
theorem dX9_stepIt_62 : decode cX9_stepIt 62 = .ok (.bipush 6, 2) := dk_16 6 (dk_at dksX9_stepIt_2 16 rfl rfl)
theorem dX9_stepIt_64 : decode cX9_stepIt 64 = .ok (.aload_n 0, 1) := dk_42 (dk_at dksX9_stepIt_2 18 rfl rfl)
theorem dX9_stepIt_65 : decode cX9_stepIt 65 = .ok (.iload 4, 2) := dk_21 4 (dk_at dksX9_stepIt_2 19 rfl rfl)
theorem dX9_stepIt_67 : decode cX9_stepIt 67 = .ok (.invokevirtual 380, 3) := dk_182 1 124 (dk_at dksX9_stepIt_2 21 rfl rfl)
theorem dX9_stepIt_70 : decode cX9_stepIt 70 = .ok (.ifCond .eq 7, 3) := dk_153 0 7 (dk_at dksX9_stepIt_3 0 rfl rfl)
theorem dX9_stepIt_73 : decode cX9_stepIt 73 = .ok (.iconst 1, 1) := dk_4 (dk_at dksX9_stepIt_3 3 rfl rfl)
theorem dX9_stepIt_74 : decode cX9_stepIt 74 = .ok (.goto 4, 3) := dk_167 0 4 (dk_at dksX9_stepIt_3 4 rfl rfl)
theorem dX9_stepIt_77 : decode cX9_stepIt 77 = .ok (.iconst 0, 1) := dk_3 (dk_at dksX9_stepIt_3 7 rfl rfl)
theorem dX9_stepIt_78 : decode cX9_stepIt 78 = .ok (.invokevirtual 154, 3) := dk_182 0 154 (dk_at dksX9_stepIt_3 8 rfl rfl)
theorem dX9_stepIt_81 : decode cX9_stepIt 81 = .ok (.iload 4, 2) := dk_21 4 (dk_at dksX9_stepIt_3 11 rfl rfl)
theorem dX9_stepIt_83 : decode cX9_stepIt 83 = .ok (.ireturn, 1) := dk_172 (dk_at dksX9_stepIt_3 13 rfl rfl)
abbrev cX9_whyNotStep : ByteArray := prog_16_method_122_code
def yX9_whyNotStep : MethodName := ⟨RX9, "whyNotStep", "(II)I"⟩
def dkwX9_whyNotStep_1 : List UInt8 := [29, 2, 159, 0, 11, 42, 29, 182, 0, 125, 153, 0, 7, 5, 167, 0, 4, 3, 172]
abbrev dktX9_whyNotStep_1 : List UInt8 := dkwX9_whyNotStep_1 ++ []
def dkwX9_whyNotStep_0 : List UInt8 := [42, 27, 5, 182, 0, 80, 4, 160, 0, 5, 4, 172, 42, 42, 27, 3, 182, 0, 80, 28, 182, 0, 122, 62]
abbrev dktX9_whyNotStep_0 : List UInt8 := dkwX9_whyNotStep_0 ++ dktX9_whyNotStep_1
theorem dksX9_whyNotStep_0 : cX9_whyNotStep.data.toList.drop 0 = dktX9_whyNotStep_0 := by decide +kernel
theorem dksX9_whyNotStep_1 : cX9_whyNotStep.data.toList.drop 24 = dktX9_whyNotStep_1 := dk_seg dksX9_whyNotStep_0 24 rfl rfl
theorem dX9_whyNotStep_0 : decode cX9_whyNotStep 0 = .ok (.aload_n 0, 1) := dk_42 (dk_at dksX9_whyNotStep_0 0 rfl rfl)
theorem dX9_whyNotStep_1 : decode cX9_whyNotStep 1 = .ok (.iload_n 1, 1) := dk_27 (dk_at dksX9_whyNotStep_0 1 rfl rfl)
theorem dX9_whyNotStep_2 : decode cX9_whyNotStep 2 = .ok (.iconst 2, 1) := dk_5 (dk_at dksX9_whyNotStep_0 2 rfl rfl)
theorem dX9_whyNotStep_3 : decode cX9_whyNotStep 3 = .ok (.invokevirtual 80, 3) := dk_182 0 80 (dk_at dksX9_whyNotStep_0 3 rfl rfl)
theorem dX9_whyNotStep_6 : decode cX9_whyNotStep 6 = .ok (.iconst 1, 1) := dk_4 (dk_at dksX9_whyNotStep_0 6 rfl rfl)
theorem dX9_whyNotStep_7 : decode cX9_whyNotStep 7 = .ok (.if_icmp .ne 5, 3) := dk_160 0 5 (dk_at dksX9_whyNotStep_0 7 rfl rfl)
theorem dX9_whyNotStep_10 : decode cX9_whyNotStep 10 = .ok (.iconst 1, 1) := dk_4 (dk_at dksX9_whyNotStep_0 10 rfl rfl)
theorem dX9_whyNotStep_11 : decode cX9_whyNotStep 11 = .ok (.ireturn, 1) := dk_172 (dk_at dksX9_whyNotStep_0 11 rfl rfl)
theorem dX9_whyNotStep_12 : decode cX9_whyNotStep 12 = .ok (.aload_n 0, 1) := dk_42 (dk_at dksX9_whyNotStep_0 12 rfl rfl)
theorem dX9_whyNotStep_13 : decode cX9_whyNotStep 13 = .ok (.aload_n 0, 1) := dk_42 (dk_at dksX9_whyNotStep_0 13 rfl rfl)
theorem dX9_whyNotStep_14 : decode cX9_whyNotStep 14 = .ok (.iload_n 1, 1) := dk_27 (dk_at dksX9_whyNotStep_0 14 rfl rfl)
theorem dX9_whyNotStep_15 : decode cX9_whyNotStep 15 = .ok (.iconst 0, 1) := dk_3 (dk_at dksX9_whyNotStep_0 15 rfl rfl)
theorem dX9_whyNotStep_16 : decode cX9_whyNotStep 16 = .ok (.invokevirtual 80, 3) := dk_182 0 80 (dk_at dksX9_whyNotStep_0 16 rfl rfl)
theorem dX9_whyNotStep_19 : decode cX9_whyNotStep 19 = .ok (.iload_n 2, 1) := dk_28 (dk_at dksX9_whyNotStep_0 19 rfl rfl)
theorem dX9_whyNotStep_20 : decode cX9_whyNotStep 20 = .ok (.invokevirtual 122, 3) := dk_182 0 122 (dk_at dksX9_whyNotStep_0 20 rfl rfl)
theorem dX9_whyNotStep_23 : decode cX9_whyNotStep 23 = .ok (.istore_n 3, 1) := dk_62 (dk_at dksX9_whyNotStep_0 23 rfl rfl)
theorem dX9_whyNotStep_24 : decode cX9_whyNotStep 24 = .ok (.iload_n 3, 1) := dk_29 (dk_at dksX9_whyNotStep_1 0 rfl rfl)
theorem dX9_whyNotStep_25 : decode cX9_whyNotStep 25 = .ok (.iconst (-1), 1) := dk_2 (dk_at dksX9_whyNotStep_1 1 rfl rfl)
theorem dX9_whyNotStep_26 : decode cX9_whyNotStep 26 = .ok (.if_icmp .eq 11, 3) := dk_159 0 11 (dk_at dksX9_whyNotStep_1 2 rfl rfl)
theorem dX9_whyNotStep_29 : decode cX9_whyNotStep 29 = .ok (.aload_n 0, 1) := dk_42 (dk_at dksX9_whyNotStep_1 5 rfl rfl)
theorem dX9_whyNotStep_30 : decode cX9_whyNotStep 30 = .ok (.iload_n 3, 1) := dk_29 (dk_at dksX9_whyNotStep_1 6 rfl rfl)
theorem dX9_whyNotStep_31 : decode cX9_whyNotStep 31 = .ok (.invokevirtual 125, 3) := dk_182 0 125 (dk_at dksX9_whyNotStep_1 7 rfl rfl)
theorem dX9_whyNotStep_34 : decode cX9_whyNotStep 34 = .ok (.ifCond .eq 7, 3) := dk_153 0 7 (dk_at dksX9_whyNotStep_1 10 rfl rfl)
theorem dX9_whyNotStep_37 : decode cX9_whyNotStep 37 = .ok (.iconst 2, 1) := dk_5 (dk_at dksX9_whyNotStep_1 13 rfl rfl)
theorem dX9_whyNotStep_38 : decode cX9_whyNotStep 38 = .ok (.goto 4, 3) := dk_167 0 4 (dk_at dksX9_whyNotStep_1 14 rfl rfl)
theorem dX9_whyNotStep_41 : decode cX9_whyNotStep 41 = .ok (.iconst 0, 1) := dk_3 (dk_at dksX9_whyNotStep_1 17 rfl rfl)
theorem dX9_whyNotStep_42 : decode cX9_whyNotStep 42 = .ok (.ireturn, 1) := dk_172 (dk_at dksX9_whyNotStep_1 18 rfl rfl)
abbrev cX9_isSeen : ByteArray := prog_16_method_36_code
def yX9_isSeen : MethodName := ⟨RX9, "isSeen", "(I)Z"⟩
def dkwX9_isSeen_1 : List UInt8 := [132, 2, 1, 167, 255, 232, 3, 172]
abbrev dktX9_isSeen_1 : List UInt8 := dkwX9_isSeen_1 ++ []
def dkwX9_isSeen_0 : List UInt8 := [3, 61, 28, 42, 180, 0, 7, 7, 46, 162, 0, 20, 42, 28, 27, 182, 0, 141, 153, 0, 5, 4, 172]
abbrev dktX9_isSeen_0 : List UInt8 := dkwX9_isSeen_0 ++ dktX9_isSeen_1
theorem dksX9_isSeen_0 : cX9_isSeen.data.toList.drop 0 = dktX9_isSeen_0 := by decide +kernel
theorem dksX9_isSeen_1 : cX9_isSeen.data.toList.drop 23 = dktX9_isSeen_1 := dk_seg dksX9_isSeen_0 23 rfl rfl
theorem dX9_isSeen_0 : decode cX9_isSeen 0 = .ok (.iconst 0, 1) := dk_3 (dk_at dksX9_isSeen_0 0 rfl rfl)
theorem dX9_isSeen_1 : decode cX9_isSeen 1 = .ok (.istore_n 2, 1) := dk_61 (dk_at dksX9_isSeen_0 1 rfl rfl)
theorem dX9_isSeen_2 : decode cX9_isSeen 2 = .ok (.iload_n 2, 1) := dk_28 (dk_at dksX9_isSeen_0 2 rfl rfl)
theorem dX9_isSeen_3 : decode cX9_isSeen 3 = .ok (.aload_n 0, 1) := dk_42 (dk_at dksX9_isSeen_0 3 rfl rfl)
theorem dX9_isSeen_4 : decode cX9_isSeen 4 = .ok (.getfield 7, 3) := dk_180 0 7 (dk_at dksX9_isSeen_0 4 rfl rfl)
theorem dX9_isSeen_7 : decode cX9_isSeen 7 = .ok (.iconst 4, 1) := dk_7 (dk_at dksX9_isSeen_0 7 rfl rfl)
theorem dX9_isSeen_8 : decode cX9_isSeen 8 = .ok (.iaload, 1) := dk_46 (dk_at dksX9_isSeen_0 8 rfl rfl)
theorem dX9_isSeen_9 : decode cX9_isSeen 9 = .ok (.if_icmp .ge 20, 3) := dk_162 0 20 (dk_at dksX9_isSeen_0 9 rfl rfl)
theorem dX9_isSeen_12 : decode cX9_isSeen 12 = .ok (.aload_n 0, 1) := dk_42 (dk_at dksX9_isSeen_0 12 rfl rfl)
theorem dX9_isSeen_13 : decode cX9_isSeen 13 = .ok (.iload_n 2, 1) := dk_28 (dk_at dksX9_isSeen_0 13 rfl rfl)
theorem dX9_isSeen_14 : decode cX9_isSeen 14 = .ok (.iload_n 1, 1) := dk_27 (dk_at dksX9_isSeen_0 14 rfl rfl)
theorem dX9_isSeen_15 : decode cX9_isSeen 15 = .ok (.invokevirtual 141, 3) := dk_182 0 141 (dk_at dksX9_isSeen_0 15 rfl rfl)
theorem dX9_isSeen_18 : decode cX9_isSeen 18 = .ok (.ifCond .eq 5, 3) := dk_153 0 5 (dk_at dksX9_isSeen_0 18 rfl rfl)
theorem dX9_isSeen_21 : decode cX9_isSeen 21 = .ok (.iconst 1, 1) := dk_4 (dk_at dksX9_isSeen_0 21 rfl rfl)
theorem dX9_isSeen_22 : decode cX9_isSeen 22 = .ok (.ireturn, 1) := dk_172 (dk_at dksX9_isSeen_0 22 rfl rfl)
theorem dX9_isSeen_23 : decode cX9_isSeen 23 = .ok (.iinc 2 1, 3) := dk_132 2 1 (dk_at dksX9_isSeen_1 0 rfl rfl)
theorem dX9_isSeen_26 : decode cX9_isSeen 26 = .ok (.goto (-24), 3) := dk_167 255 232 (dk_at dksX9_isSeen_1 3 rfl rfl)
theorem dX9_isSeen_29 : decode cX9_isSeen 29 = .ok (.iconst 0, 1) := dk_3 (dk_at dksX9_isSeen_1 6 rfl rfl)
theorem dX9_isSeen_30 : decode cX9_isSeen 30 = .ok (.ireturn, 1) := dk_172 (dk_at dksX9_isSeen_1 7 rfl rfl)
abbrev cX9_sees : ByteArray := prog_16_method_35_code
def yX9_sees : MethodName := ⟨RX9, "sees", "(II)Z"⟩
def dkwX9_sees_1 : List UInt8 := [5, 182, 0, 119, 163, 0, 7, 4, 167, 0, 4, 3, 172]
abbrev dktX9_sees_1 : List UInt8 := dkwX9_sees_1 ++ []
def dkwX9_sees_0 : List UInt8 := [42, 27, 28, 182, 0, 135, 62, 29, 2, 159, 0, 26, 29, 153, 0, 18, 42, 27, 29, 182, 0, 138, 42, 27]
abbrev dktX9_sees_0 : List UInt8 := dkwX9_sees_0 ++ dktX9_sees_1
theorem dksX9_sees_0 : cX9_sees.data.toList.drop 0 = dktX9_sees_0 := by decide +kernel
theorem dksX9_sees_1 : cX9_sees.data.toList.drop 24 = dktX9_sees_1 := dk_seg dksX9_sees_0 24 rfl rfl
theorem dX9_sees_0 : decode cX9_sees 0 = .ok (.aload_n 0, 1) := dk_42 (dk_at dksX9_sees_0 0 rfl rfl)
theorem dX9_sees_1 : decode cX9_sees 1 = .ok (.iload_n 1, 1) := dk_27 (dk_at dksX9_sees_0 1 rfl rfl)
theorem dX9_sees_2 : decode cX9_sees 2 = .ok (.iload_n 2, 1) := dk_28 (dk_at dksX9_sees_0 2 rfl rfl)
theorem dX9_sees_3 : decode cX9_sees 3 = .ok (.invokevirtual 135, 3) := dk_182 0 135 (dk_at dksX9_sees_0 3 rfl rfl)
theorem dX9_sees_6 : decode cX9_sees 6 = .ok (.istore_n 3, 1) := dk_62 (dk_at dksX9_sees_0 6 rfl rfl)
theorem dX9_sees_7 : decode cX9_sees 7 = .ok (.iload_n 3, 1) := dk_29 (dk_at dksX9_sees_0 7 rfl rfl)
theorem dX9_sees_8 : decode cX9_sees 8 = .ok (.iconst (-1), 1) := dk_2 (dk_at dksX9_sees_0 8 rfl rfl)
theorem dX9_sees_9 : decode cX9_sees 9 = .ok (.if_icmp .eq 26, 3) := dk_159 0 26 (dk_at dksX9_sees_0 9 rfl rfl)
theorem dX9_sees_12 : decode cX9_sees 12 = .ok (.iload_n 3, 1) := dk_29 (dk_at dksX9_sees_0 12 rfl rfl)
theorem dX9_sees_13 : decode cX9_sees 13 = .ok (.ifCond .eq 18, 3) := dk_153 0 18 (dk_at dksX9_sees_0 13 rfl rfl)
theorem dX9_sees_16 : decode cX9_sees 16 = .ok (.aload_n 0, 1) := dk_42 (dk_at dksX9_sees_0 16 rfl rfl)
theorem dX9_sees_17 : decode cX9_sees 17 = .ok (.iload_n 1, 1) := dk_27 (dk_at dksX9_sees_0 17 rfl rfl)
theorem dX9_sees_18 : decode cX9_sees 18 = .ok (.iload_n 3, 1) := dk_29 (dk_at dksX9_sees_0 18 rfl rfl)
theorem dX9_sees_19 : decode cX9_sees 19 = .ok (.invokevirtual 138, 3) := dk_182 0 138 (dk_at dksX9_sees_0 19 rfl rfl)
theorem dX9_sees_22 : decode cX9_sees 22 = .ok (.aload_n 0, 1) := dk_42 (dk_at dksX9_sees_0 22 rfl rfl)
theorem dX9_sees_23 : decode cX9_sees 23 = .ok (.iload_n 1, 1) := dk_27 (dk_at dksX9_sees_0 23 rfl rfl)
theorem dX9_sees_24 : decode cX9_sees 24 = .ok (.iconst 2, 1) := dk_5 (dk_at dksX9_sees_1 0 rfl rfl)
theorem dX9_sees_25 : decode cX9_sees 25 = .ok (.invokevirtual 119, 3) := dk_182 0 119 (dk_at dksX9_sees_1 1 rfl rfl)
theorem dX9_sees_28 : decode cX9_sees 28 = .ok (.if_icmp .gt 7, 3) := dk_163 0 7 (dk_at dksX9_sees_1 4 rfl rfl)
theorem dX9_sees_31 : decode cX9_sees 31 = .ok (.iconst 1, 1) := dk_4 (dk_at dksX9_sees_1 7 rfl rfl)
theorem dX9_sees_32 : decode cX9_sees 32 = .ok (.goto 4, 3) := dk_167 0 4 (dk_at dksX9_sees_1 8 rfl rfl)
theorem dX9_sees_35 : decode cX9_sees 35 = .ok (.iconst 0, 1) := dk_3 (dk_at dksX9_sees_1 11 rfl rfl)
theorem dX9_sees_36 : decode cX9_sees 36 = .ok (.ireturn, 1) := dk_172 (dk_at dksX9_sees_1 12 rfl rfl)
abbrev cX9_placeIn : ByteArray := prog_16_method_34_code
def yX9_placeIn : MethodName := ⟨RX9, "placeIn", "(II)I"⟩
def dkwX9_placeIn_1 : List UInt8 := [132, 3, 1, 167, 255, 231, 2, 172]
abbrev dktX9_placeIn_1 : List UInt8 := dkwX9_placeIn_1 ++ []
def dkwX9_placeIn_0 : List UInt8 := [3, 62, 29, 42, 27, 5, 182, 0, 119, 163, 0, 21, 42, 27, 29, 182, 0, 129, 28, 160, 0, 5, 29, 172]
abbrev dktX9_placeIn_0 : List UInt8 := dkwX9_placeIn_0 ++ dktX9_placeIn_1
theorem dksX9_placeIn_0 : cX9_placeIn.data.toList.drop 0 = dktX9_placeIn_0 := by decide +kernel
theorem dksX9_placeIn_1 : cX9_placeIn.data.toList.drop 24 = dktX9_placeIn_1 := dk_seg dksX9_placeIn_0 24 rfl rfl
theorem dX9_placeIn_0 : decode cX9_placeIn 0 = .ok (.iconst 0, 1) := dk_3 (dk_at dksX9_placeIn_0 0 rfl rfl)
theorem dX9_placeIn_1 : decode cX9_placeIn 1 = .ok (.istore_n 3, 1) := dk_62 (dk_at dksX9_placeIn_0 1 rfl rfl)
theorem dX9_placeIn_2 : decode cX9_placeIn 2 = .ok (.iload_n 3, 1) := dk_29 (dk_at dksX9_placeIn_0 2 rfl rfl)
theorem dX9_placeIn_3 : decode cX9_placeIn 3 = .ok (.aload_n 0, 1) := dk_42 (dk_at dksX9_placeIn_0 3 rfl rfl)
theorem dX9_placeIn_4 : decode cX9_placeIn 4 = .ok (.iload_n 1, 1) := dk_27 (dk_at dksX9_placeIn_0 4 rfl rfl)
theorem dX9_placeIn_5 : decode cX9_placeIn 5 = .ok (.iconst 2, 1) := dk_5 (dk_at dksX9_placeIn_0 5 rfl rfl)
theorem dX9_placeIn_6 : decode cX9_placeIn 6 = .ok (.invokevirtual 119, 3) := dk_182 0 119 (dk_at dksX9_placeIn_0 6 rfl rfl)
theorem dX9_placeIn_9 : decode cX9_placeIn 9 = .ok (.if_icmp .gt 21, 3) := dk_163 0 21 (dk_at dksX9_placeIn_0 9 rfl rfl)
theorem dX9_placeIn_12 : decode cX9_placeIn 12 = .ok (.aload_n 0, 1) := dk_42 (dk_at dksX9_placeIn_0 12 rfl rfl)
theorem dX9_placeIn_13 : decode cX9_placeIn 13 = .ok (.iload_n 1, 1) := dk_27 (dk_at dksX9_placeIn_0 13 rfl rfl)
theorem dX9_placeIn_14 : decode cX9_placeIn 14 = .ok (.iload_n 3, 1) := dk_29 (dk_at dksX9_placeIn_0 14 rfl rfl)
theorem dX9_placeIn_15 : decode cX9_placeIn 15 = .ok (.invokevirtual 129, 3) := dk_182 0 129 (dk_at dksX9_placeIn_0 15 rfl rfl)
theorem dX9_placeIn_18 : decode cX9_placeIn 18 = .ok (.iload_n 2, 1) := dk_28 (dk_at dksX9_placeIn_0 18 rfl rfl)
theorem dX9_placeIn_19 : decode cX9_placeIn 19 = .ok (.if_icmp .ne 5, 3) := dk_160 0 5 (dk_at dksX9_placeIn_0 19 rfl rfl)
theorem dX9_placeIn_22 : decode cX9_placeIn 22 = .ok (.iload_n 3, 1) := dk_29 (dk_at dksX9_placeIn_0 22 rfl rfl)
theorem dX9_placeIn_23 : decode cX9_placeIn 23 = .ok (.ireturn, 1) := dk_172 (dk_at dksX9_placeIn_0 23 rfl rfl)
theorem dX9_placeIn_24 : decode cX9_placeIn 24 = .ok (.iinc 3 1, 3) := dk_132 3 1 (dk_at dksX9_placeIn_1 0 rfl rfl)
theorem dX9_placeIn_27 : decode cX9_placeIn 27 = .ok (.goto (-25), 3) := dk_167 255 231 (dk_at dksX9_placeIn_1 3 rfl rfl)
theorem dX9_placeIn_30 : decode cX9_placeIn 30 = .ok (.iconst (-1), 1) := dk_2 (dk_at dksX9_placeIn_1 6 rfl rfl)
theorem dX9_placeIn_31 : decode cX9_placeIn 31 = .ok (.ireturn, 1) := dk_172 (dk_at dksX9_placeIn_1 7 rfl rfl)
abbrev cX9_isLetter : ByteArray := prog_16_method_23_code
def yX9_isLetter : MethodName := ⟨RX9, "isLetter", "(I)Z"⟩
def dkwX9_isLetter_0 : List UInt8 := [27, 3, 42, 180, 0, 7, 16, 6, 46, 4, 100, 184, 0, 88, 172]
abbrev dktX9_isLetter_0 : List UInt8 := dkwX9_isLetter_0 ++ []
theorem dksX9_isLetter_0 : cX9_isLetter.data.toList.drop 0 = dktX9_isLetter_0 := by decide +kernel
theorem dX9_isLetter_0 : decode cX9_isLetter 0 = .ok (.iload_n 1, 1) := dk_27 (dk_at dksX9_isLetter_0 0 rfl rfl)
theorem dX9_isLetter_1 : decode cX9_isLetter 1 = .ok (.iconst 0, 1) := dk_3 (dk_at dksX9_isLetter_0 1 rfl rfl)
theorem dX9_isLetter_2 : decode cX9_isLetter 2 = .ok (.aload_n 0, 1) := dk_42 (dk_at dksX9_isLetter_0 2 rfl rfl)
theorem dX9_isLetter_3 : decode cX9_isLetter 3 = .ok (.getfield 7, 3) := dk_180 0 7 (dk_at dksX9_isLetter_0 3 rfl rfl)
theorem dX9_isLetter_6 : decode cX9_isLetter 6 = .ok (.bipush 6, 2) := dk_16 6 (dk_at dksX9_isLetter_0 6 rfl rfl)
theorem dX9_isLetter_8 : decode cX9_isLetter 8 = .ok (.iaload, 1) := dk_46 (dk_at dksX9_isLetter_0 8 rfl rfl)
theorem dX9_isLetter_9 : decode cX9_isLetter 9 = .ok (.iconst 1, 1) := dk_4 (dk_at dksX9_isLetter_0 9 rfl rfl)
theorem dX9_isLetter_10 : decode cX9_isLetter 10 = .ok (.isub, 1) := dk_100 (dk_at dksX9_isLetter_0 10 rfl rfl)
theorem dX9_isLetter_11 : decode cX9_isLetter 11 = .ok (.invokestatic 88, 3) := dk_184 0 88 (dk_at dksX9_isLetter_0 11 rfl rfl)
theorem dX9_isLetter_14 : decode cX9_isLetter 14 = .ok (.ireturn, 1) := dk_172 (dk_at dksX9_isLetter_0 14 rfl rfl)
abbrev cX9_pickIt : ByteArray := prog_16_method_129_code
def yX9_pickIt : MethodName := ⟨RX9, "pickIt", "(II)I"⟩
def dkwX9_pickIt_2 : List UInt8 := [5, 4, 182, 0, 74, 42, 28, 7, 27, 182, 0, 74, 42, 4, 4, 182, 0, 154, 42, 27, 182, 1, 121, 172]
abbrev dktX9_pickIt_2 : List UInt8 := dkwX9_pickIt_2 ++ []
def dkwX9_pickIt_1 : List UInt8 := [182, 1, 121, 42, 180, 0, 7, 5, 46, 160, 0, 9, 42, 7, 182, 1, 187, 172, 42, 182, 1, 190, 42, 28]
abbrev dktX9_pickIt_1 : List UInt8 := dkwX9_pickIt_1 ++ dktX9_pickIt_2
def dkwX9_pickIt_0 : List UInt8 := [42, 28, 42, 27, 3, 182, 0, 80, 182, 1, 94, 154, 0, 9, 42, 6, 182, 1, 187, 172, 42, 27]
abbrev dktX9_pickIt_0 : List UInt8 := dkwX9_pickIt_0 ++ dktX9_pickIt_1
theorem dksX9_pickIt_0 : cX9_pickIt.data.toList.drop 0 = dktX9_pickIt_0 := by decide +kernel
theorem dksX9_pickIt_1 : cX9_pickIt.data.toList.drop 22 = dktX9_pickIt_1 := dk_seg dksX9_pickIt_0 22 rfl rfl
theorem dksX9_pickIt_2 : cX9_pickIt.data.toList.drop 46 = dktX9_pickIt_2 := dk_seg dksX9_pickIt_1 24 rfl rfl
theorem dX9_pickIt_0 : decode cX9_pickIt 0 = .ok (.aload_n 0, 1) := dk_42 (dk_at dksX9_pickIt_0 0 rfl rfl)
theorem dX9_pickIt_1 : decode cX9_pickIt 1 = .ok (.iload_n 2, 1) := dk_28 (dk_at dksX9_pickIt_0 1 rfl rfl)
theorem dX9_pickIt_2 : decode cX9_pickIt 2 = .ok (.aload_n 0, 1) := dk_42 (dk_at dksX9_pickIt_0 2 rfl rfl)
theorem dX9_pickIt_3 : decode cX9_pickIt 3 = .ok (.iload_n 1, 1) := dk_27 (dk_at dksX9_pickIt_0 3 rfl rfl)
theorem dX9_pickIt_4 : decode cX9_pickIt 4 = .ok (.iconst 0, 1) := dk_3 (dk_at dksX9_pickIt_0 4 rfl rfl)
theorem dX9_pickIt_5 : decode cX9_pickIt 5 = .ok (.invokevirtual 80, 3) := dk_182 0 80 (dk_at dksX9_pickIt_0 5 rfl rfl)
theorem dX9_pickIt_8 : decode cX9_pickIt 8 = .ok (.invokevirtual 350, 3) := dk_182 1 94 (dk_at dksX9_pickIt_0 8 rfl rfl)
theorem dX9_pickIt_11 : decode cX9_pickIt 11 = .ok (.ifCond .ne 9, 3) := dk_154 0 9 (dk_at dksX9_pickIt_0 11 rfl rfl)
theorem dX9_pickIt_14 : decode cX9_pickIt 14 = .ok (.aload_n 0, 1) := dk_42 (dk_at dksX9_pickIt_0 14 rfl rfl)
theorem dX9_pickIt_15 : decode cX9_pickIt 15 = .ok (.iconst 3, 1) := dk_6 (dk_at dksX9_pickIt_0 15 rfl rfl)
theorem dX9_pickIt_16 : decode cX9_pickIt 16 = .ok (.invokevirtual 443, 3) := dk_182 1 187 (dk_at dksX9_pickIt_0 16 rfl rfl)
theorem dX9_pickIt_19 : decode cX9_pickIt 19 = .ok (.ireturn, 1) := dk_172 (dk_at dksX9_pickIt_0 19 rfl rfl)
theorem dX9_pickIt_20 : decode cX9_pickIt 20 = .ok (.aload_n 0, 1) := dk_42 (dk_at dksX9_pickIt_0 20 rfl rfl)
theorem dX9_pickIt_21 : decode cX9_pickIt 21 = .ok (.iload_n 1, 1) := dk_27 (dk_at dksX9_pickIt_0 21 rfl rfl)
theorem dX9_pickIt_22 : decode cX9_pickIt 22 = .ok (.invokevirtual 377, 3) := dk_182 1 121 (dk_at dksX9_pickIt_1 0 rfl rfl)
theorem dX9_pickIt_25 : decode cX9_pickIt 25 = .ok (.aload_n 0, 1) := dk_42 (dk_at dksX9_pickIt_1 3 rfl rfl)
theorem dX9_pickIt_26 : decode cX9_pickIt 26 = .ok (.getfield 7, 3) := dk_180 0 7 (dk_at dksX9_pickIt_1 4 rfl rfl)
theorem dX9_pickIt_29 : decode cX9_pickIt 29 = .ok (.iconst 2, 1) := dk_5 (dk_at dksX9_pickIt_1 7 rfl rfl)
theorem dX9_pickIt_30 : decode cX9_pickIt 30 = .ok (.iaload, 1) := dk_46 (dk_at dksX9_pickIt_1 8 rfl rfl)
theorem dX9_pickIt_31 : decode cX9_pickIt 31 = .ok (.if_icmp .ne 9, 3) := dk_160 0 9 (dk_at dksX9_pickIt_1 9 rfl rfl)
theorem dX9_pickIt_34 : decode cX9_pickIt 34 = .ok (.aload_n 0, 1) := dk_42 (dk_at dksX9_pickIt_1 12 rfl rfl)
theorem dX9_pickIt_35 : decode cX9_pickIt 35 = .ok (.iconst 4, 1) := dk_7 (dk_at dksX9_pickIt_1 13 rfl rfl)
theorem dX9_pickIt_36 : decode cX9_pickIt 36 = .ok (.invokevirtual 443, 3) := dk_182 1 187 (dk_at dksX9_pickIt_1 14 rfl rfl)
theorem dX9_pickIt_39 : decode cX9_pickIt 39 = .ok (.ireturn, 1) := dk_172 (dk_at dksX9_pickIt_1 17 rfl rfl)
theorem dX9_pickIt_40 : decode cX9_pickIt 40 = .ok (.aload_n 0, 1) := dk_42 (dk_at dksX9_pickIt_1 18 rfl rfl)
theorem dX9_pickIt_41 : decode cX9_pickIt 41 = .ok (.invokevirtual 446, 3) := dk_182 1 190 (dk_at dksX9_pickIt_1 19 rfl rfl)
theorem dX9_pickIt_44 : decode cX9_pickIt 44 = .ok (.aload_n 0, 1) := dk_42 (dk_at dksX9_pickIt_1 22 rfl rfl)
theorem dX9_pickIt_45 : decode cX9_pickIt 45 = .ok (.iload_n 2, 1) := dk_28 (dk_at dksX9_pickIt_1 23 rfl rfl)
theorem dX9_pickIt_46 : decode cX9_pickIt 46 = .ok (.iconst 2, 1) := dk_5 (dk_at dksX9_pickIt_2 0 rfl rfl)
theorem dX9_pickIt_47 : decode cX9_pickIt 47 = .ok (.iconst 1, 1) := dk_4 (dk_at dksX9_pickIt_2 1 rfl rfl)
theorem dX9_pickIt_48 : decode cX9_pickIt 48 = .ok (.invokevirtual 74, 3) := dk_182 0 74 (dk_at dksX9_pickIt_2 2 rfl rfl)
theorem dX9_pickIt_51 : decode cX9_pickIt 51 = .ok (.aload_n 0, 1) := dk_42 (dk_at dksX9_pickIt_2 5 rfl rfl)
theorem dX9_pickIt_52 : decode cX9_pickIt 52 = .ok (.iload_n 2, 1) := dk_28 (dk_at dksX9_pickIt_2 6 rfl rfl)
theorem dX9_pickIt_53 : decode cX9_pickIt 53 = .ok (.iconst 4, 1) := dk_7 (dk_at dksX9_pickIt_2 7 rfl rfl)
theorem dX9_pickIt_54 : decode cX9_pickIt 54 = .ok (.iload_n 1, 1) := dk_27 (dk_at dksX9_pickIt_2 8 rfl rfl)
theorem dX9_pickIt_55 : decode cX9_pickIt 55 = .ok (.invokevirtual 74, 3) := dk_182 0 74 (dk_at dksX9_pickIt_2 9 rfl rfl)
theorem dX9_pickIt_58 : decode cX9_pickIt 58 = .ok (.aload_n 0, 1) := dk_42 (dk_at dksX9_pickIt_2 12 rfl rfl)
theorem dX9_pickIt_59 : decode cX9_pickIt 59 = .ok (.iconst 1, 1) := dk_4 (dk_at dksX9_pickIt_2 13 rfl rfl)
theorem dX9_pickIt_60 : decode cX9_pickIt 60 = .ok (.iconst 1, 1) := dk_4 (dk_at dksX9_pickIt_2 14 rfl rfl)
theorem dX9_pickIt_61 : decode cX9_pickIt 61 = .ok (.invokevirtual 154, 3) := dk_182 0 154 (dk_at dksX9_pickIt_2 15 rfl rfl)
theorem dX9_pickIt_64 : decode cX9_pickIt 64 = .ok (.aload_n 0, 1) := dk_42 (dk_at dksX9_pickIt_2 18 rfl rfl)
theorem dX9_pickIt_65 : decode cX9_pickIt 65 = .ok (.iload_n 1, 1) := dk_27 (dk_at dksX9_pickIt_2 19 rfl rfl)
theorem dX9_pickIt_66 : decode cX9_pickIt 66 = .ok (.invokevirtual 377, 3) := dk_182 1 121 (dk_at dksX9_pickIt_2 20 rfl rfl)
theorem dX9_pickIt_69 : decode cX9_pickIt 69 = .ok (.ireturn, 1) := dk_172 (dk_at dksX9_pickIt_2 23 rfl rfl)
abbrev cX9_liesOn : ByteArray := prog_16_method_84_code
def yX9_liesOn : MethodName := ⟨RX9, "liesOn", "(II)Z"⟩
def dkwX9_liesOn_1 : List UInt8 := [172]
abbrev dktX9_liesOn_1 : List UInt8 := dkwX9_liesOn_1 ++ []
def dkwX9_liesOn_0 : List UInt8 := [42, 27, 5, 182, 0, 160, 154, 0, 17, 42, 27, 6, 182, 0, 160, 28, 160, 0, 7, 4, 167, 0, 4, 3]
abbrev dktX9_liesOn_0 : List UInt8 := dkwX9_liesOn_0 ++ dktX9_liesOn_1
theorem dksX9_liesOn_0 : cX9_liesOn.data.toList.drop 0 = dktX9_liesOn_0 := by decide +kernel
theorem dksX9_liesOn_1 : cX9_liesOn.data.toList.drop 24 = dktX9_liesOn_1 := dk_seg dksX9_liesOn_0 24 rfl rfl
theorem dX9_liesOn_0 : decode cX9_liesOn 0 = .ok (.aload_n 0, 1) := dk_42 (dk_at dksX9_liesOn_0 0 rfl rfl)
theorem dX9_liesOn_1 : decode cX9_liesOn 1 = .ok (.iload_n 1, 1) := dk_27 (dk_at dksX9_liesOn_0 1 rfl rfl)
theorem dX9_liesOn_2 : decode cX9_liesOn 2 = .ok (.iconst 2, 1) := dk_5 (dk_at dksX9_liesOn_0 2 rfl rfl)
theorem dX9_liesOn_3 : decode cX9_liesOn 3 = .ok (.invokevirtual 160, 3) := dk_182 0 160 (dk_at dksX9_liesOn_0 3 rfl rfl)
theorem dX9_liesOn_6 : decode cX9_liesOn 6 = .ok (.ifCond .ne 17, 3) := dk_154 0 17 (dk_at dksX9_liesOn_0 6 rfl rfl)
theorem dX9_liesOn_9 : decode cX9_liesOn 9 = .ok (.aload_n 0, 1) := dk_42 (dk_at dksX9_liesOn_0 9 rfl rfl)
theorem dX9_liesOn_10 : decode cX9_liesOn 10 = .ok (.iload_n 1, 1) := dk_27 (dk_at dksX9_liesOn_0 10 rfl rfl)
theorem dX9_liesOn_11 : decode cX9_liesOn 11 = .ok (.iconst 3, 1) := dk_6 (dk_at dksX9_liesOn_0 11 rfl rfl)
theorem dX9_liesOn_12 : decode cX9_liesOn 12 = .ok (.invokevirtual 160, 3) := dk_182 0 160 (dk_at dksX9_liesOn_0 12 rfl rfl)
theorem dX9_liesOn_15 : decode cX9_liesOn 15 = .ok (.iload_n 2, 1) := dk_28 (dk_at dksX9_liesOn_0 15 rfl rfl)
theorem dX9_liesOn_16 : decode cX9_liesOn 16 = .ok (.if_icmp .ne 7, 3) := dk_160 0 7 (dk_at dksX9_liesOn_0 16 rfl rfl)
theorem dX9_liesOn_19 : decode cX9_liesOn 19 = .ok (.iconst 1, 1) := dk_4 (dk_at dksX9_liesOn_0 19 rfl rfl)
theorem dX9_liesOn_20 : decode cX9_liesOn 20 = .ok (.goto 4, 3) := dk_167 0 4 (dk_at dksX9_liesOn_0 20 rfl rfl)
theorem dX9_liesOn_23 : decode cX9_liesOn 23 = .ok (.iconst 0, 1) := dk_3 (dk_at dksX9_liesOn_0 23 rfl rfl)
theorem dX9_liesOn_24 : decode cX9_liesOn 24 = .ok (.ireturn, 1) := dk_172 (dk_at dksX9_liesOn_1 0 rfl rfl)
abbrev cX9_carriedBy : ByteArray := prog_16_method_46_code
def yX9_carriedBy : MethodName := ⟨RX9, "carriedBy", "(I)I"⟩
def dkwX9_carriedBy_1 : List UInt8 := [153, 0, 7, 4, 167, 0, 4, 3, 96, 61, 132, 3, 1, 167, 255, 225, 28, 172]
abbrev dktX9_carriedBy_1 : List UInt8 := dkwX9_carriedBy_1 ++ []
def dkwX9_carriedBy_0 : List UInt8 := [3, 61, 3, 62, 29, 42, 180, 0, 7, 16, 6, 46, 162, 0, 26, 28, 42, 29, 27, 182, 0, 157]
abbrev dktX9_carriedBy_0 : List UInt8 := dkwX9_carriedBy_0 ++ dktX9_carriedBy_1
theorem dksX9_carriedBy_0 : cX9_carriedBy.data.toList.drop 0 = dktX9_carriedBy_0 := by decide +kernel
theorem dksX9_carriedBy_1 : cX9_carriedBy.data.toList.drop 22 = dktX9_carriedBy_1 := dk_seg dksX9_carriedBy_0 22 rfl rfl
theorem dX9_carriedBy_0 : decode cX9_carriedBy 0 = .ok (.iconst 0, 1) := dk_3 (dk_at dksX9_carriedBy_0 0 rfl rfl)
theorem dX9_carriedBy_1 : decode cX9_carriedBy 1 = .ok (.istore_n 2, 1) := dk_61 (dk_at dksX9_carriedBy_0 1 rfl rfl)
theorem dX9_carriedBy_2 : decode cX9_carriedBy 2 = .ok (.iconst 0, 1) := dk_3 (dk_at dksX9_carriedBy_0 2 rfl rfl)
theorem dX9_carriedBy_3 : decode cX9_carriedBy 3 = .ok (.istore_n 3, 1) := dk_62 (dk_at dksX9_carriedBy_0 3 rfl rfl)
theorem dX9_carriedBy_4 : decode cX9_carriedBy 4 = .ok (.iload_n 3, 1) := dk_29 (dk_at dksX9_carriedBy_0 4 rfl rfl)
theorem dX9_carriedBy_5 : decode cX9_carriedBy 5 = .ok (.aload_n 0, 1) := dk_42 (dk_at dksX9_carriedBy_0 5 rfl rfl)
theorem dX9_carriedBy_6 : decode cX9_carriedBy 6 = .ok (.getfield 7, 3) := dk_180 0 7 (dk_at dksX9_carriedBy_0 6 rfl rfl)
theorem dX9_carriedBy_9 : decode cX9_carriedBy 9 = .ok (.bipush 6, 2) := dk_16 6 (dk_at dksX9_carriedBy_0 9 rfl rfl)
theorem dX9_carriedBy_11 : decode cX9_carriedBy 11 = .ok (.iaload, 1) := dk_46 (dk_at dksX9_carriedBy_0 11 rfl rfl)
theorem dX9_carriedBy_12 : decode cX9_carriedBy 12 = .ok (.if_icmp .ge 26, 3) := dk_162 0 26 (dk_at dksX9_carriedBy_0 12 rfl rfl)
theorem dX9_carriedBy_15 : decode cX9_carriedBy 15 = .ok (.iload_n 2, 1) := dk_28 (dk_at dksX9_carriedBy_0 15 rfl rfl)
theorem dX9_carriedBy_16 : decode cX9_carriedBy 16 = .ok (.aload_n 0, 1) := dk_42 (dk_at dksX9_carriedBy_0 16 rfl rfl)
theorem dX9_carriedBy_17 : decode cX9_carriedBy 17 = .ok (.iload_n 3, 1) := dk_29 (dk_at dksX9_carriedBy_0 17 rfl rfl)
theorem dX9_carriedBy_18 : decode cX9_carriedBy 18 = .ok (.iload_n 1, 1) := dk_27 (dk_at dksX9_carriedBy_0 18 rfl rfl)
theorem dX9_carriedBy_19 : decode cX9_carriedBy 19 = .ok (.invokevirtual 157, 3) := dk_182 0 157 (dk_at dksX9_carriedBy_0 19 rfl rfl)
theorem dX9_carriedBy_22 : decode cX9_carriedBy 22 = .ok (.ifCond .eq 7, 3) := dk_153 0 7 (dk_at dksX9_carriedBy_1 0 rfl rfl)
theorem dX9_carriedBy_25 : decode cX9_carriedBy 25 = .ok (.iconst 1, 1) := dk_4 (dk_at dksX9_carriedBy_1 3 rfl rfl)
theorem dX9_carriedBy_26 : decode cX9_carriedBy 26 = .ok (.goto 4, 3) := dk_167 0 4 (dk_at dksX9_carriedBy_1 4 rfl rfl)
theorem dX9_carriedBy_29 : decode cX9_carriedBy 29 = .ok (.iconst 0, 1) := dk_3 (dk_at dksX9_carriedBy_1 7 rfl rfl)
theorem dX9_carriedBy_30 : decode cX9_carriedBy 30 = .ok (.iadd, 1) := dk_96 (dk_at dksX9_carriedBy_1 8 rfl rfl)
theorem dX9_carriedBy_31 : decode cX9_carriedBy 31 = .ok (.istore_n 2, 1) := dk_61 (dk_at dksX9_carriedBy_1 9 rfl rfl)
theorem dX9_carriedBy_32 : decode cX9_carriedBy 32 = .ok (.iinc 3 1, 3) := dk_132 3 1 (dk_at dksX9_carriedBy_1 10 rfl rfl)
theorem dX9_carriedBy_35 : decode cX9_carriedBy 35 = .ok (.goto (-31), 3) := dk_167 255 225 (dk_at dksX9_carriedBy_1 13 rfl rfl)
theorem dX9_carriedBy_38 : decode cX9_carriedBy 38 = .ok (.iload_n 2, 1) := dk_28 (dk_at dksX9_carriedBy_1 16 rfl rfl)
theorem dX9_carriedBy_39 : decode cX9_carriedBy 39 = .ok (.ireturn, 1) := dk_172 (dk_at dksX9_carriedBy_1 17 rfl rfl)
abbrev cX9_giveIt : ByteArray := prog_16_method_131_code
def yX9_giveIt : MethodName := ⟨RX9, "giveIt", "(III)I"⟩
def dkwX9_giveIt_2 : List UInt8 := [42, 5, 4, 182, 0, 154, 42, 28, 182, 1, 121, 172]
abbrev dktX9_giveIt_2 : List UInt8 := dkwX9_giveIt_2 ++ []
def dkwX9_giveIt_1 : List UInt8 := [182, 1, 190, 42, 29, 7, 28, 182, 0, 74, 42, 29, 8, 42, 29, 8, 182, 0, 160, 4, 96, 182, 0, 74]
abbrev dktX9_giveIt_1 : List UInt8 := dkwX9_giveIt_1 ++ dktX9_giveIt_2
def dkwX9_giveIt_0 : List UInt8 := [42, 27, 28, 29, 182, 1, 193, 54, 4, 21, 4, 158, 0, 10, 42, 21, 4, 182, 1, 187, 172, 42]
abbrev dktX9_giveIt_0 : List UInt8 := dkwX9_giveIt_0 ++ dktX9_giveIt_1
theorem dksX9_giveIt_0 : cX9_giveIt.data.toList.drop 0 = dktX9_giveIt_0 := by decide +kernel
theorem dksX9_giveIt_1 : cX9_giveIt.data.toList.drop 22 = dktX9_giveIt_1 := dk_seg dksX9_giveIt_0 22 rfl rfl
theorem dksX9_giveIt_2 : cX9_giveIt.data.toList.drop 46 = dktX9_giveIt_2 := dk_seg dksX9_giveIt_1 24 rfl rfl
theorem dX9_giveIt_0 : decode cX9_giveIt 0 = .ok (.aload_n 0, 1) := dk_42 (dk_at dksX9_giveIt_0 0 rfl rfl)
theorem dX9_giveIt_1 : decode cX9_giveIt 1 = .ok (.iload_n 1, 1) := dk_27 (dk_at dksX9_giveIt_0 1 rfl rfl)
theorem dX9_giveIt_2 : decode cX9_giveIt 2 = .ok (.iload_n 2, 1) := dk_28 (dk_at dksX9_giveIt_0 2 rfl rfl)
theorem dX9_giveIt_3 : decode cX9_giveIt 3 = .ok (.iload_n 3, 1) := dk_29 (dk_at dksX9_giveIt_0 3 rfl rfl)
theorem dX9_giveIt_4 : decode cX9_giveIt 4 = .ok (.invokevirtual 449, 3) := dk_182 1 193 (dk_at dksX9_giveIt_0 4 rfl rfl)
theorem dX9_giveIt_7 : decode cX9_giveIt 7 = .ok (.istore 4, 2) := dk_54 4 (dk_at dksX9_giveIt_0 7 rfl rfl)
theorem dX9_giveIt_9 : decode cX9_giveIt 9 = .ok (.iload 4, 2) := dk_21 4 (dk_at dksX9_giveIt_0 9 rfl rfl)
theorem dX9_giveIt_11 : decode cX9_giveIt 11 = .ok (.ifCond .le 10, 3) := dk_158 0 10 (dk_at dksX9_giveIt_0 11 rfl rfl)
theorem dX9_giveIt_14 : decode cX9_giveIt 14 = .ok (.aload_n 0, 1) := dk_42 (dk_at dksX9_giveIt_0 14 rfl rfl)
theorem dX9_giveIt_15 : decode cX9_giveIt 15 = .ok (.iload 4, 2) := dk_21 4 (dk_at dksX9_giveIt_0 15 rfl rfl)
theorem dX9_giveIt_17 : decode cX9_giveIt 17 = .ok (.invokevirtual 443, 3) := dk_182 1 187 (dk_at dksX9_giveIt_0 17 rfl rfl)
theorem dX9_giveIt_20 : decode cX9_giveIt 20 = .ok (.ireturn, 1) := dk_172 (dk_at dksX9_giveIt_0 20 rfl rfl)
theorem dX9_giveIt_21 : decode cX9_giveIt 21 = .ok (.aload_n 0, 1) := dk_42 (dk_at dksX9_giveIt_0 21 rfl rfl)
theorem dX9_giveIt_22 : decode cX9_giveIt 22 = .ok (.invokevirtual 446, 3) := dk_182 1 190 (dk_at dksX9_giveIt_1 0 rfl rfl)
theorem dX9_giveIt_25 : decode cX9_giveIt 25 = .ok (.aload_n 0, 1) := dk_42 (dk_at dksX9_giveIt_1 3 rfl rfl)
theorem dX9_giveIt_26 : decode cX9_giveIt 26 = .ok (.iload_n 3, 1) := dk_29 (dk_at dksX9_giveIt_1 4 rfl rfl)
theorem dX9_giveIt_27 : decode cX9_giveIt 27 = .ok (.iconst 4, 1) := dk_7 (dk_at dksX9_giveIt_1 5 rfl rfl)
theorem dX9_giveIt_28 : decode cX9_giveIt 28 = .ok (.iload_n 2, 1) := dk_28 (dk_at dksX9_giveIt_1 6 rfl rfl)
theorem dX9_giveIt_29 : decode cX9_giveIt 29 = .ok (.invokevirtual 74, 3) := dk_182 0 74 (dk_at dksX9_giveIt_1 7 rfl rfl)
theorem dX9_giveIt_32 : decode cX9_giveIt 32 = .ok (.aload_n 0, 1) := dk_42 (dk_at dksX9_giveIt_1 10 rfl rfl)
theorem dX9_giveIt_33 : decode cX9_giveIt 33 = .ok (.iload_n 3, 1) := dk_29 (dk_at dksX9_giveIt_1 11 rfl rfl)
theorem dX9_giveIt_34 : decode cX9_giveIt 34 = .ok (.iconst 5, 1) := dk_8 (dk_at dksX9_giveIt_1 12 rfl rfl)
theorem dX9_giveIt_35 : decode cX9_giveIt 35 = .ok (.aload_n 0, 1) := dk_42 (dk_at dksX9_giveIt_1 13 rfl rfl)
theorem dX9_giveIt_36 : decode cX9_giveIt 36 = .ok (.iload_n 3, 1) := dk_29 (dk_at dksX9_giveIt_1 14 rfl rfl)
theorem dX9_giveIt_37 : decode cX9_giveIt 37 = .ok (.iconst 5, 1) := dk_8 (dk_at dksX9_giveIt_1 15 rfl rfl)
theorem dX9_giveIt_38 : decode cX9_giveIt 38 = .ok (.invokevirtual 160, 3) := dk_182 0 160 (dk_at dksX9_giveIt_1 16 rfl rfl)
theorem dX9_giveIt_41 : decode cX9_giveIt 41 = .ok (.iconst 1, 1) := dk_4 (dk_at dksX9_giveIt_1 19 rfl rfl)
theorem dX9_giveIt_42 : decode cX9_giveIt 42 = .ok (.iadd, 1) := dk_96 (dk_at dksX9_giveIt_1 20 rfl rfl)
theorem dX9_giveIt_43 : decode cX9_giveIt 43 = .ok (.invokevirtual 74, 3) := dk_182 0 74 (dk_at dksX9_giveIt_1 21 rfl rfl)
theorem dX9_giveIt_46 : decode cX9_giveIt 46 = .ok (.aload_n 0, 1) := dk_42 (dk_at dksX9_giveIt_2 0 rfl rfl)
theorem dX9_giveIt_47 : decode cX9_giveIt 47 = .ok (.iconst 2, 1) := dk_5 (dk_at dksX9_giveIt_2 1 rfl rfl)
theorem dX9_giveIt_48 : decode cX9_giveIt 48 = .ok (.iconst 1, 1) := dk_4 (dk_at dksX9_giveIt_2 2 rfl rfl)
theorem dX9_giveIt_49 : decode cX9_giveIt 49 = .ok (.invokevirtual 154, 3) := dk_182 0 154 (dk_at dksX9_giveIt_2 3 rfl rfl)
theorem dX9_giveIt_52 : decode cX9_giveIt 52 = .ok (.aload_n 0, 1) := dk_42 (dk_at dksX9_giveIt_2 6 rfl rfl)
theorem dX9_giveIt_53 : decode cX9_giveIt 53 = .ok (.iload_n 2, 1) := dk_28 (dk_at dksX9_giveIt_2 7 rfl rfl)
theorem dX9_giveIt_54 : decode cX9_giveIt 54 = .ok (.invokevirtual 377, 3) := dk_182 1 121 (dk_at dksX9_giveIt_2 8 rfl rfl)
theorem dX9_giveIt_57 : decode cX9_giveIt 57 = .ok (.ireturn, 1) := dk_172 (dk_at dksX9_giveIt_2 11 rfl rfl)
abbrev cX9_whyNotGive : ByteArray := prog_16_method_130_code
def yX9_whyNotGive : MethodName := ⟨RX9, "whyNotGive", "(III)I"⟩
def dkwX9_whyNotGive_2 : List UInt8 := [180, 0, 7, 5, 46, 160, 0, 7, 7, 167, 0, 4, 3, 172]
abbrev dktX9_whyNotGive_2 : List UInt8 := dkwX9_whyNotGive_2 ++ []
def dkwX9_whyNotGive_1 : List UInt8 := [182, 0, 80, 42, 28, 3, 182, 0, 80, 159, 0, 8, 16, 6, 167, 0, 22, 42, 28, 182, 1, 121, 42]
abbrev dktX9_whyNotGive_1 : List UInt8 := dkwX9_whyNotGive_1 ++ dktX9_whyNotGive_2
def dkwX9_whyNotGive_0 : List UInt8 := [27, 28, 160, 0, 6, 16, 7, 172, 42, 29, 27, 182, 0, 157, 154, 0, 5, 8, 172, 42, 27, 3]
abbrev dktX9_whyNotGive_0 : List UInt8 := dkwX9_whyNotGive_0 ++ dktX9_whyNotGive_1
theorem dksX9_whyNotGive_0 : cX9_whyNotGive.data.toList.drop 0 = dktX9_whyNotGive_0 := by decide +kernel
theorem dksX9_whyNotGive_1 : cX9_whyNotGive.data.toList.drop 22 = dktX9_whyNotGive_1 := dk_seg dksX9_whyNotGive_0 22 rfl rfl
theorem dksX9_whyNotGive_2 : cX9_whyNotGive.data.toList.drop 45 = dktX9_whyNotGive_2 := dk_seg dksX9_whyNotGive_1 23 rfl rfl
theorem dX9_whyNotGive_0 : decode cX9_whyNotGive 0 = .ok (.iload_n 1, 1) := dk_27 (dk_at dksX9_whyNotGive_0 0 rfl rfl)
theorem dX9_whyNotGive_1 : decode cX9_whyNotGive 1 = .ok (.iload_n 2, 1) := dk_28 (dk_at dksX9_whyNotGive_0 1 rfl rfl)
theorem dX9_whyNotGive_2 : decode cX9_whyNotGive 2 = .ok (.if_icmp .ne 6, 3) := dk_160 0 6 (dk_at dksX9_whyNotGive_0 2 rfl rfl)
theorem dX9_whyNotGive_5 : decode cX9_whyNotGive 5 = .ok (.bipush 7, 2) := dk_16 7 (dk_at dksX9_whyNotGive_0 5 rfl rfl)
theorem dX9_whyNotGive_7 : decode cX9_whyNotGive 7 = .ok (.ireturn, 1) := dk_172 (dk_at dksX9_whyNotGive_0 7 rfl rfl)
theorem dX9_whyNotGive_8 : decode cX9_whyNotGive 8 = .ok (.aload_n 0, 1) := dk_42 (dk_at dksX9_whyNotGive_0 8 rfl rfl)
theorem dX9_whyNotGive_9 : decode cX9_whyNotGive 9 = .ok (.iload_n 3, 1) := dk_29 (dk_at dksX9_whyNotGive_0 9 rfl rfl)
theorem dX9_whyNotGive_10 : decode cX9_whyNotGive 10 = .ok (.iload_n 1, 1) := dk_27 (dk_at dksX9_whyNotGive_0 10 rfl rfl)
theorem dX9_whyNotGive_11 : decode cX9_whyNotGive 11 = .ok (.invokevirtual 157, 3) := dk_182 0 157 (dk_at dksX9_whyNotGive_0 11 rfl rfl)
theorem dX9_whyNotGive_14 : decode cX9_whyNotGive 14 = .ok (.ifCond .ne 5, 3) := dk_154 0 5 (dk_at dksX9_whyNotGive_0 14 rfl rfl)
theorem dX9_whyNotGive_17 : decode cX9_whyNotGive 17 = .ok (.iconst 5, 1) := dk_8 (dk_at dksX9_whyNotGive_0 17 rfl rfl)
theorem dX9_whyNotGive_18 : decode cX9_whyNotGive 18 = .ok (.ireturn, 1) := dk_172 (dk_at dksX9_whyNotGive_0 18 rfl rfl)
theorem dX9_whyNotGive_19 : decode cX9_whyNotGive 19 = .ok (.aload_n 0, 1) := dk_42 (dk_at dksX9_whyNotGive_0 19 rfl rfl)
theorem dX9_whyNotGive_20 : decode cX9_whyNotGive 20 = .ok (.iload_n 1, 1) := dk_27 (dk_at dksX9_whyNotGive_0 20 rfl rfl)
theorem dX9_whyNotGive_21 : decode cX9_whyNotGive 21 = .ok (.iconst 0, 1) := dk_3 (dk_at dksX9_whyNotGive_0 21 rfl rfl)
theorem dX9_whyNotGive_22 : decode cX9_whyNotGive 22 = .ok (.invokevirtual 80, 3) := dk_182 0 80 (dk_at dksX9_whyNotGive_1 0 rfl rfl)
theorem dX9_whyNotGive_25 : decode cX9_whyNotGive 25 = .ok (.aload_n 0, 1) := dk_42 (dk_at dksX9_whyNotGive_1 3 rfl rfl)
theorem dX9_whyNotGive_26 : decode cX9_whyNotGive 26 = .ok (.iload_n 2, 1) := dk_28 (dk_at dksX9_whyNotGive_1 4 rfl rfl)
theorem dX9_whyNotGive_27 : decode cX9_whyNotGive 27 = .ok (.iconst 0, 1) := dk_3 (dk_at dksX9_whyNotGive_1 5 rfl rfl)
theorem dX9_whyNotGive_28 : decode cX9_whyNotGive 28 = .ok (.invokevirtual 80, 3) := dk_182 0 80 (dk_at dksX9_whyNotGive_1 6 rfl rfl)
theorem dX9_whyNotGive_31 : decode cX9_whyNotGive 31 = .ok (.if_icmp .eq 8, 3) := dk_159 0 8 (dk_at dksX9_whyNotGive_1 9 rfl rfl)
theorem dX9_whyNotGive_34 : decode cX9_whyNotGive 34 = .ok (.bipush 6, 2) := dk_16 6 (dk_at dksX9_whyNotGive_1 12 rfl rfl)
theorem dX9_whyNotGive_36 : decode cX9_whyNotGive 36 = .ok (.goto 22, 3) := dk_167 0 22 (dk_at dksX9_whyNotGive_1 14 rfl rfl)
theorem dX9_whyNotGive_39 : decode cX9_whyNotGive 39 = .ok (.aload_n 0, 1) := dk_42 (dk_at dksX9_whyNotGive_1 17 rfl rfl)
theorem dX9_whyNotGive_40 : decode cX9_whyNotGive 40 = .ok (.iload_n 2, 1) := dk_28 (dk_at dksX9_whyNotGive_1 18 rfl rfl)
theorem dX9_whyNotGive_41 : decode cX9_whyNotGive 41 = .ok (.invokevirtual 377, 3) := dk_182 1 121 (dk_at dksX9_whyNotGive_1 19 rfl rfl)
theorem dX9_whyNotGive_44 : decode cX9_whyNotGive 44 = .ok (.aload_n 0, 1) := dk_42 (dk_at dksX9_whyNotGive_1 22 rfl rfl)
theorem dX9_whyNotGive_45 : decode cX9_whyNotGive 45 = .ok (.getfield 7, 3) := dk_180 0 7 (dk_at dksX9_whyNotGive_2 0 rfl rfl)
theorem dX9_whyNotGive_48 : decode cX9_whyNotGive 48 = .ok (.iconst 2, 1) := dk_5 (dk_at dksX9_whyNotGive_2 3 rfl rfl)
theorem dX9_whyNotGive_49 : decode cX9_whyNotGive 49 = .ok (.iaload, 1) := dk_46 (dk_at dksX9_whyNotGive_2 4 rfl rfl)
theorem dX9_whyNotGive_50 : decode cX9_whyNotGive 50 = .ok (.if_icmp .ne 7, 3) := dk_160 0 7 (dk_at dksX9_whyNotGive_2 5 rfl rfl)
theorem dX9_whyNotGive_53 : decode cX9_whyNotGive 53 = .ok (.iconst 4, 1) := dk_7 (dk_at dksX9_whyNotGive_2 8 rfl rfl)
theorem dX9_whyNotGive_54 : decode cX9_whyNotGive 54 = .ok (.goto 4, 3) := dk_167 0 4 (dk_at dksX9_whyNotGive_2 9 rfl rfl)
theorem dX9_whyNotGive_57 : decode cX9_whyNotGive 57 = .ok (.iconst 0, 1) := dk_3 (dk_at dksX9_whyNotGive_2 12 rfl rfl)
theorem dX9_whyNotGive_58 : decode cX9_whyNotGive 58 = .ok (.ireturn, 1) := dk_172 (dk_at dksX9_whyNotGive_2 13 rfl rfl)
abbrev cX9_layIt : ByteArray := prog_16_method_132_code
def yX9_layIt : MethodName := ⟨RX9, "layIt", "(II)I"⟩
def dkwX9_layIt_3 : List UInt8 := [182, 0, 80, 182, 0, 74, 42, 28, 7, 2, 182, 0, 74, 42, 6, 4, 182, 0, 154, 3, 172]
abbrev dktX9_layIt_3 : List UInt8 := dkwX9_layIt_3 ++ []
def dkwX9_layIt_2 : List UInt8 := [182, 0, 151, 42, 7, 4, 182, 0, 154, 4, 172, 42, 28, 5, 3, 182, 0, 74, 42, 28, 6, 42, 27, 3]
abbrev dktX9_layIt_2 : List UInt8 := dkwX9_layIt_2 ++ dktX9_layIt_3
def dkwX9_layIt_1 : List UInt8 := [182, 0, 80, 42, 28, 4, 182, 0, 160, 160, 0, 24, 42, 28, 5, 5, 182, 0, 74, 42, 27, 8]
abbrev dktX9_layIt_1 : List UInt8 := dkwX9_layIt_1 ++ dktX9_layIt_2
def dkwX9_layIt_0 : List UInt8 := [42, 28, 27, 182, 0, 157, 154, 0, 9, 42, 8, 182, 1, 187, 172, 42, 182, 1, 190, 42, 27, 3]
abbrev dktX9_layIt_0 : List UInt8 := dkwX9_layIt_0 ++ dktX9_layIt_1
theorem dksX9_layIt_0 : cX9_layIt.data.toList.drop 0 = dktX9_layIt_0 := by decide +kernel
theorem dksX9_layIt_1 : cX9_layIt.data.toList.drop 22 = dktX9_layIt_1 := dk_seg dksX9_layIt_0 22 rfl rfl
theorem dksX9_layIt_2 : cX9_layIt.data.toList.drop 44 = dktX9_layIt_2 := dk_seg dksX9_layIt_1 22 rfl rfl
theorem dksX9_layIt_3 : cX9_layIt.data.toList.drop 68 = dktX9_layIt_3 := dk_seg dksX9_layIt_2 24 rfl rfl
theorem dX9_layIt_0 : decode cX9_layIt 0 = .ok (.aload_n 0, 1) := dk_42 (dk_at dksX9_layIt_0 0 rfl rfl)
theorem dX9_layIt_1 : decode cX9_layIt 1 = .ok (.iload_n 2, 1) := dk_28 (dk_at dksX9_layIt_0 1 rfl rfl)
theorem dX9_layIt_2 : decode cX9_layIt 2 = .ok (.iload_n 1, 1) := dk_27 (dk_at dksX9_layIt_0 2 rfl rfl)
theorem dX9_layIt_3 : decode cX9_layIt 3 = .ok (.invokevirtual 157, 3) := dk_182 0 157 (dk_at dksX9_layIt_0 3 rfl rfl)
theorem dX9_layIt_6 : decode cX9_layIt 6 = .ok (.ifCond .ne 9, 3) := dk_154 0 9 (dk_at dksX9_layIt_0 6 rfl rfl)
theorem dX9_layIt_9 : decode cX9_layIt 9 = .ok (.aload_n 0, 1) := dk_42 (dk_at dksX9_layIt_0 9 rfl rfl)
theorem dX9_layIt_10 : decode cX9_layIt 10 = .ok (.iconst 5, 1) := dk_8 (dk_at dksX9_layIt_0 10 rfl rfl)
theorem dX9_layIt_11 : decode cX9_layIt 11 = .ok (.invokevirtual 443, 3) := dk_182 1 187 (dk_at dksX9_layIt_0 11 rfl rfl)
theorem dX9_layIt_14 : decode cX9_layIt 14 = .ok (.ireturn, 1) := dk_172 (dk_at dksX9_layIt_0 14 rfl rfl)
theorem dX9_layIt_15 : decode cX9_layIt 15 = .ok (.aload_n 0, 1) := dk_42 (dk_at dksX9_layIt_0 15 rfl rfl)
theorem dX9_layIt_16 : decode cX9_layIt 16 = .ok (.invokevirtual 446, 3) := dk_182 1 190 (dk_at dksX9_layIt_0 16 rfl rfl)
theorem dX9_layIt_19 : decode cX9_layIt 19 = .ok (.aload_n 0, 1) := dk_42 (dk_at dksX9_layIt_0 19 rfl rfl)
theorem dX9_layIt_20 : decode cX9_layIt 20 = .ok (.iload_n 1, 1) := dk_27 (dk_at dksX9_layIt_0 20 rfl rfl)
theorem dX9_layIt_21 : decode cX9_layIt 21 = .ok (.iconst 0, 1) := dk_3 (dk_at dksX9_layIt_0 21 rfl rfl)
theorem dX9_layIt_22 : decode cX9_layIt 22 = .ok (.invokevirtual 80, 3) := dk_182 0 80 (dk_at dksX9_layIt_1 0 rfl rfl)
theorem dX9_layIt_25 : decode cX9_layIt 25 = .ok (.aload_n 0, 1) := dk_42 (dk_at dksX9_layIt_1 3 rfl rfl)
theorem dX9_layIt_26 : decode cX9_layIt 26 = .ok (.iload_n 2, 1) := dk_28 (dk_at dksX9_layIt_1 4 rfl rfl)
theorem dX9_layIt_27 : decode cX9_layIt 27 = .ok (.iconst 1, 1) := dk_4 (dk_at dksX9_layIt_1 5 rfl rfl)
theorem dX9_layIt_28 : decode cX9_layIt 28 = .ok (.invokevirtual 160, 3) := dk_182 0 160 (dk_at dksX9_layIt_1 6 rfl rfl)
theorem dX9_layIt_31 : decode cX9_layIt 31 = .ok (.if_icmp .ne 24, 3) := dk_160 0 24 (dk_at dksX9_layIt_1 9 rfl rfl)
theorem dX9_layIt_34 : decode cX9_layIt 34 = .ok (.aload_n 0, 1) := dk_42 (dk_at dksX9_layIt_1 12 rfl rfl)
theorem dX9_layIt_35 : decode cX9_layIt 35 = .ok (.iload_n 2, 1) := dk_28 (dk_at dksX9_layIt_1 13 rfl rfl)
theorem dX9_layIt_36 : decode cX9_layIt 36 = .ok (.iconst 2, 1) := dk_5 (dk_at dksX9_layIt_1 14 rfl rfl)
theorem dX9_layIt_37 : decode cX9_layIt 37 = .ok (.iconst 2, 1) := dk_5 (dk_at dksX9_layIt_1 15 rfl rfl)
theorem dX9_layIt_38 : decode cX9_layIt 38 = .ok (.invokevirtual 74, 3) := dk_182 0 74 (dk_at dksX9_layIt_1 16 rfl rfl)
theorem dX9_layIt_41 : decode cX9_layIt 41 = .ok (.aload_n 0, 1) := dk_42 (dk_at dksX9_layIt_1 19 rfl rfl)
theorem dX9_layIt_42 : decode cX9_layIt 42 = .ok (.iload_n 1, 1) := dk_27 (dk_at dksX9_layIt_1 20 rfl rfl)
theorem dX9_layIt_43 : decode cX9_layIt 43 = .ok (.iconst 5, 1) := dk_8 (dk_at dksX9_layIt_1 21 rfl rfl)
theorem dX9_layIt_44 : decode cX9_layIt 44 = .ok (.invokevirtual 151, 3) := dk_182 0 151 (dk_at dksX9_layIt_2 0 rfl rfl)
theorem dX9_layIt_47 : decode cX9_layIt 47 = .ok (.aload_n 0, 1) := dk_42 (dk_at dksX9_layIt_2 3 rfl rfl)
theorem dX9_layIt_48 : decode cX9_layIt 48 = .ok (.iconst 4, 1) := dk_7 (dk_at dksX9_layIt_2 4 rfl rfl)
theorem dX9_layIt_49 : decode cX9_layIt 49 = .ok (.iconst 1, 1) := dk_4 (dk_at dksX9_layIt_2 5 rfl rfl)
theorem dX9_layIt_50 : decode cX9_layIt 50 = .ok (.invokevirtual 154, 3) := dk_182 0 154 (dk_at dksX9_layIt_2 6 rfl rfl)
theorem dX9_layIt_53 : decode cX9_layIt 53 = .ok (.iconst 1, 1) := dk_4 (dk_at dksX9_layIt_2 9 rfl rfl)
theorem dX9_layIt_54 : decode cX9_layIt 54 = .ok (.ireturn, 1) := dk_172 (dk_at dksX9_layIt_2 10 rfl rfl)
theorem dX9_layIt_55 : decode cX9_layIt 55 = .ok (.aload_n 0, 1) := dk_42 (dk_at dksX9_layIt_2 11 rfl rfl)
theorem dX9_layIt_56 : decode cX9_layIt 56 = .ok (.iload_n 2, 1) := dk_28 (dk_at dksX9_layIt_2 12 rfl rfl)
theorem dX9_layIt_57 : decode cX9_layIt 57 = .ok (.iconst 2, 1) := dk_5 (dk_at dksX9_layIt_2 13 rfl rfl)
theorem dX9_layIt_58 : decode cX9_layIt 58 = .ok (.iconst 0, 1) := dk_3 (dk_at dksX9_layIt_2 14 rfl rfl)
theorem dX9_layIt_59 : decode cX9_layIt 59 = .ok (.invokevirtual 74, 3) := dk_182 0 74 (dk_at dksX9_layIt_2 15 rfl rfl)
theorem dX9_layIt_62 : decode cX9_layIt 62 = .ok (.aload_n 0, 1) := dk_42 (dk_at dksX9_layIt_2 18 rfl rfl)
theorem dX9_layIt_63 : decode cX9_layIt 63 = .ok (.iload_n 2, 1) := dk_28 (dk_at dksX9_layIt_2 19 rfl rfl)
theorem dX9_layIt_64 : decode cX9_layIt 64 = .ok (.iconst 3, 1) := dk_6 (dk_at dksX9_layIt_2 20 rfl rfl)
theorem dX9_layIt_65 : decode cX9_layIt 65 = .ok (.aload_n 0, 1) := dk_42 (dk_at dksX9_layIt_2 21 rfl rfl)
theorem dX9_layIt_66 : decode cX9_layIt 66 = .ok (.iload_n 1, 1) := dk_27 (dk_at dksX9_layIt_2 22 rfl rfl)
theorem dX9_layIt_67 : decode cX9_layIt 67 = .ok (.iconst 0, 1) := dk_3 (dk_at dksX9_layIt_2 23 rfl rfl)
theorem dX9_layIt_68 : decode cX9_layIt 68 = .ok (.invokevirtual 80, 3) := dk_182 0 80 (dk_at dksX9_layIt_3 0 rfl rfl)
theorem dX9_layIt_71 : decode cX9_layIt 71 = .ok (.invokevirtual 74, 3) := dk_182 0 74 (dk_at dksX9_layIt_3 3 rfl rfl)
theorem dX9_layIt_74 : decode cX9_layIt 74 = .ok (.aload_n 0, 1) := dk_42 (dk_at dksX9_layIt_3 6 rfl rfl)
theorem dX9_layIt_75 : decode cX9_layIt 75 = .ok (.iload_n 2, 1) := dk_28 (dk_at dksX9_layIt_3 7 rfl rfl)
theorem dX9_layIt_76 : decode cX9_layIt 76 = .ok (.iconst 4, 1) := dk_7 (dk_at dksX9_layIt_3 8 rfl rfl)
theorem dX9_layIt_77 : decode cX9_layIt 77 = .ok (.iconst (-1), 1) := dk_2 (dk_at dksX9_layIt_3 9 rfl rfl)
theorem dX9_layIt_78 : decode cX9_layIt 78 = .ok (.invokevirtual 74, 3) := dk_182 0 74 (dk_at dksX9_layIt_3 10 rfl rfl)
theorem dX9_layIt_81 : decode cX9_layIt 81 = .ok (.aload_n 0, 1) := dk_42 (dk_at dksX9_layIt_3 13 rfl rfl)
theorem dX9_layIt_82 : decode cX9_layIt 82 = .ok (.iconst 3, 1) := dk_6 (dk_at dksX9_layIt_3 14 rfl rfl)
theorem dX9_layIt_83 : decode cX9_layIt 83 = .ok (.iconst 1, 1) := dk_4 (dk_at dksX9_layIt_3 15 rfl rfl)
theorem dX9_layIt_84 : decode cX9_layIt 84 = .ok (.invokevirtual 154, 3) := dk_182 0 154 (dk_at dksX9_layIt_3 16 rfl rfl)
theorem dX9_layIt_87 : decode cX9_layIt 87 = .ok (.iconst 0, 1) := dk_3 (dk_at dksX9_layIt_3 19 rfl rfl)
theorem dX9_layIt_88 : decode cX9_layIt 88 = .ok (.ireturn, 1) := dk_172 (dk_at dksX9_layIt_3 20 rfl rfl)
abbrev cX9_errorCode : ByteArray := prog_16_method_76_code
def yX9_errorCode : MethodName := ⟨RX9, "errorCode", "()I"⟩
def dkwX9_errorCode_0 : List UInt8 := [42, 3, 181, 0, 77, 42, 180, 0, 184, 172]
abbrev dktX9_errorCode_0 : List UInt8 := dkwX9_errorCode_0 ++ []
theorem dksX9_errorCode_0 : cX9_errorCode.data.toList.drop 0 = dktX9_errorCode_0 := by decide +kernel
theorem dX9_errorCode_0 : decode cX9_errorCode 0 = .ok (.aload_n 0, 1) := dk_42 (dk_at dksX9_errorCode_0 0 rfl rfl)
theorem dX9_errorCode_1 : decode cX9_errorCode 1 = .ok (.iconst 0, 1) := dk_3 (dk_at dksX9_errorCode_0 1 rfl rfl)
theorem dX9_errorCode_2 : decode cX9_errorCode 2 = .ok (.putfield 77, 3) := dk_181 0 77 (dk_at dksX9_errorCode_0 2 rfl rfl)
theorem dX9_errorCode_5 : decode cX9_errorCode 5 = .ok (.aload_n 0, 1) := dk_42 (dk_at dksX9_errorCode_0 5 rfl rfl)
theorem dX9_errorCode_6 : decode cX9_errorCode 6 = .ok (.getfield 184, 3) := dk_180 0 184 (dk_at dksX9_errorCode_0 6 rfl rfl)
theorem dX9_errorCode_9 : decode cX9_errorCode 9 = .ok (.ireturn, 1) := dk_172 (dk_at dksX9_errorCode_0 9 rfl rfl)
abbrev cX9_errorPosition : ByteArray := prog_16_method_77_code
def yX9_errorPosition : MethodName := ⟨RX9, "errorPosition", "()I"⟩
def dkwX9_errorPosition_0 : List UInt8 := [42, 3, 181, 0, 77, 42, 180, 0, 36, 172]
abbrev dktX9_errorPosition_0 : List UInt8 := dkwX9_errorPosition_0 ++ []
theorem dksX9_errorPosition_0 : cX9_errorPosition.data.toList.drop 0 = dktX9_errorPosition_0 := by decide +kernel
theorem dX9_errorPosition_0 : decode cX9_errorPosition 0 = .ok (.aload_n 0, 1) := dk_42 (dk_at dksX9_errorPosition_0 0 rfl rfl)
theorem dX9_errorPosition_1 : decode cX9_errorPosition 1 = .ok (.iconst 0, 1) := dk_3 (dk_at dksX9_errorPosition_0 1 rfl rfl)
theorem dX9_errorPosition_2 : decode cX9_errorPosition 2 = .ok (.putfield 77, 3) := dk_181 0 77 (dk_at dksX9_errorPosition_0 2 rfl rfl)
theorem dX9_errorPosition_5 : decode cX9_errorPosition 5 = .ok (.aload_n 0, 1) := dk_42 (dk_at dksX9_errorPosition_0 5 rfl rfl)
theorem dX9_errorPosition_6 : decode cX9_errorPosition 6 = .ok (.getfield 36, 3) := dk_180 0 36 (dk_at dksX9_errorPosition_0 6 rfl rfl)
theorem dX9_errorPosition_9 : decode cX9_errorPosition 9 = .ok (.ireturn, 1) := dk_172 (dk_at dksX9_errorPosition_0 9 rfl rfl)
abbrev cX9_total : ByteArray := prog_16_method_80_code
def yX9_total : MethodName := ⟨RX9, "total", "(I)I"⟩
def dkwX9_total_4 : List UInt8 := [182, 1, 88, 172, 42, 182, 1, 91, 172, 42, 180, 1, 36, 172, 42, 4, 182, 0, 181, 172]
abbrev dktX9_total_4 : List UInt8 := dkwX9_total_4 ++ []
def dkwX9_total_3 : List UInt8 := [46, 172, 42, 180, 0, 7, 5, 46, 172, 42, 180, 0, 7, 16, 7, 46, 172, 42, 27, 16, 10, 100]
abbrev dktX9_total_3 : List UInt8 := dkwX9_total_3 ++ dktX9_total_4
def dkwX9_total_2 : List UInt8 := [42, 180, 0, 7, 27, 46, 172, 42, 182, 0, 84, 172, 42, 182, 1, 85, 172, 42, 180, 0, 7, 27, 4, 100]
abbrev dktX9_total_2 : List UInt8 := dkwX9_total_2 ++ dktX9_total_3
def dkwX9_total_1 : List UInt8 := [170, 0, 0, 0, 0, 138, 0, 0, 0, 0, 0, 0, 0, 15, 0, 0, 0, 78, 0, 0, 0, 78, 0, 0, 0, 85, 0, 0, 0, 90, 0, 0, 0, 95, 0, 0, 0, 95, 0, 0, 0, 95, 0, 0, 0, 95, 0, 0, 0, 104, 0, 0, 0, 111, 0, 0, 0, 119, 0, 0, 0, 119, 0, 0, 0, 119, 0, 0, 0, 119, 0, 0, 0, 128, 0, 0, 0, 133]
abbrev dktX9_total_1 : List UInt8 := dkwX9_total_1 ++ dktX9_total_2
def dkwX9_total_0 : List UInt8 := [42, 3, 181, 0, 77, 27]
abbrev dktX9_total_0 : List UInt8 := dkwX9_total_0 ++ dktX9_total_1
theorem dksX9_total_0 : cX9_total.data.toList.drop 0 = dktX9_total_0 := by decide +kernel
theorem dksX9_total_1 : cX9_total.data.toList.drop 6 = dktX9_total_1 := dk_seg dksX9_total_0 6 rfl rfl
theorem dksX9_total_2 : cX9_total.data.toList.drop 84 = dktX9_total_2 := dk_seg dksX9_total_1 78 rfl rfl
theorem dksX9_total_3 : cX9_total.data.toList.drop 108 = dktX9_total_3 := dk_seg dksX9_total_2 24 rfl rfl
theorem dksX9_total_4 : cX9_total.data.toList.drop 130 = dktX9_total_4 := dk_seg dksX9_total_3 22 rfl rfl
theorem dX9_total_0 : decode cX9_total 0 = .ok (.aload_n 0, 1) := dk_42 (dk_at dksX9_total_0 0 rfl rfl)
theorem dX9_total_1 : decode cX9_total 1 = .ok (.iconst 0, 1) := dk_3 (dk_at dksX9_total_0 1 rfl rfl)
theorem dX9_total_2 : decode cX9_total 2 = .ok (.putfield 77, 3) := dk_181 0 77 (dk_at dksX9_total_0 2 rfl rfl)
theorem dX9_total_5 : decode cX9_total 5 = .ok (.iload_n 1, 1) := dk_27 (dk_at dksX9_total_0 5 rfl rfl)
theorem dX9_total_6 : decode cX9_total 6 = .ok (.tableswitch 138 0 15 #[78, 78, 85, 90, 95, 95, 95, 95, 104, 111, 119, 119, 119, 119, 128, 133], 78) := by decide +kernel
theorem dX9_total_84 : decode cX9_total 84 = .ok (.aload_n 0, 1) := dk_42 (dk_at dksX9_total_2 0 rfl rfl)
theorem dX9_total_85 : decode cX9_total 85 = .ok (.getfield 7, 3) := dk_180 0 7 (dk_at dksX9_total_2 1 rfl rfl)
theorem dX9_total_88 : decode cX9_total 88 = .ok (.iload_n 1, 1) := dk_27 (dk_at dksX9_total_2 4 rfl rfl)
theorem dX9_total_89 : decode cX9_total 89 = .ok (.iaload, 1) := dk_46 (dk_at dksX9_total_2 5 rfl rfl)
theorem dX9_total_90 : decode cX9_total 90 = .ok (.ireturn, 1) := dk_172 (dk_at dksX9_total_2 6 rfl rfl)
theorem dX9_total_91 : decode cX9_total 91 = .ok (.aload_n 0, 1) := dk_42 (dk_at dksX9_total_2 7 rfl rfl)
theorem dX9_total_92 : decode cX9_total 92 = .ok (.invokevirtual 84, 3) := dk_182 0 84 (dk_at dksX9_total_2 8 rfl rfl)
theorem dX9_total_95 : decode cX9_total 95 = .ok (.ireturn, 1) := dk_172 (dk_at dksX9_total_2 11 rfl rfl)
theorem dX9_total_96 : decode cX9_total 96 = .ok (.aload_n 0, 1) := dk_42 (dk_at dksX9_total_2 12 rfl rfl)
theorem dX9_total_97 : decode cX9_total 97 = .ok (.invokevirtual 341, 3) := dk_182 1 85 (dk_at dksX9_total_2 13 rfl rfl)
theorem dX9_total_100 : decode cX9_total 100 = .ok (.ireturn, 1) := dk_172 (dk_at dksX9_total_2 16 rfl rfl)
theorem dX9_total_101 : decode cX9_total 101 = .ok (.aload_n 0, 1) := dk_42 (dk_at dksX9_total_2 17 rfl rfl)
theorem dX9_total_102 : decode cX9_total 102 = .ok (.getfield 7, 3) := dk_180 0 7 (dk_at dksX9_total_2 18 rfl rfl)
theorem dX9_total_105 : decode cX9_total 105 = .ok (.iload_n 1, 1) := dk_27 (dk_at dksX9_total_2 21 rfl rfl)
theorem dX9_total_106 : decode cX9_total 106 = .ok (.iconst 1, 1) := dk_4 (dk_at dksX9_total_2 22 rfl rfl)
theorem dX9_total_107 : decode cX9_total 107 = .ok (.isub, 1) := dk_100 (dk_at dksX9_total_2 23 rfl rfl)
theorem dX9_total_108 : decode cX9_total 108 = .ok (.iaload, 1) := dk_46 (dk_at dksX9_total_3 0 rfl rfl)
theorem dX9_total_109 : decode cX9_total 109 = .ok (.ireturn, 1) := dk_172 (dk_at dksX9_total_3 1 rfl rfl)
theorem dX9_total_110 : decode cX9_total 110 = .ok (.aload_n 0, 1) := dk_42 (dk_at dksX9_total_3 2 rfl rfl)
theorem dX9_total_111 : decode cX9_total 111 = .ok (.getfield 7, 3) := dk_180 0 7 (dk_at dksX9_total_3 3 rfl rfl)
theorem dX9_total_114 : decode cX9_total 114 = .ok (.iconst 2, 1) := dk_5 (dk_at dksX9_total_3 6 rfl rfl)
theorem dX9_total_115 : decode cX9_total 115 = .ok (.iaload, 1) := dk_46 (dk_at dksX9_total_3 7 rfl rfl)
theorem dX9_total_116 : decode cX9_total 116 = .ok (.ireturn, 1) := dk_172 (dk_at dksX9_total_3 8 rfl rfl)
theorem dX9_total_117 : decode cX9_total 117 = .ok (.aload_n 0, 1) := dk_42 (dk_at dksX9_total_3 9 rfl rfl)
theorem dX9_total_118 : decode cX9_total 118 = .ok (.getfield 7, 3) := dk_180 0 7 (dk_at dksX9_total_3 10 rfl rfl)
theorem dX9_total_121 : decode cX9_total 121 = .ok (.bipush 7, 2) := dk_16 7 (dk_at dksX9_total_3 13 rfl rfl)
theorem dX9_total_123 : decode cX9_total 123 = .ok (.iaload, 1) := dk_46 (dk_at dksX9_total_3 15 rfl rfl)
theorem dX9_total_124 : decode cX9_total 124 = .ok (.ireturn, 1) := dk_172 (dk_at dksX9_total_3 16 rfl rfl)
theorem dX9_total_125 : decode cX9_total 125 = .ok (.aload_n 0, 1) := dk_42 (dk_at dksX9_total_3 17 rfl rfl)
theorem dX9_total_126 : decode cX9_total 126 = .ok (.iload_n 1, 1) := dk_27 (dk_at dksX9_total_3 18 rfl rfl)
theorem dX9_total_127 : decode cX9_total 127 = .ok (.bipush 10, 2) := dk_16 10 (dk_at dksX9_total_3 19 rfl rfl)
theorem dX9_total_129 : decode cX9_total 129 = .ok (.isub, 1) := dk_100 (dk_at dksX9_total_3 21 rfl rfl)
theorem dX9_total_130 : decode cX9_total 130 = .ok (.invokevirtual 344, 3) := dk_182 1 88 (dk_at dksX9_total_4 0 rfl rfl)
theorem dX9_total_133 : decode cX9_total 133 = .ok (.ireturn, 1) := dk_172 (dk_at dksX9_total_4 3 rfl rfl)
theorem dX9_total_134 : decode cX9_total 134 = .ok (.aload_n 0, 1) := dk_42 (dk_at dksX9_total_4 4 rfl rfl)
theorem dX9_total_135 : decode cX9_total 135 = .ok (.invokevirtual 347, 3) := dk_182 1 91 (dk_at dksX9_total_4 5 rfl rfl)
theorem dX9_total_138 : decode cX9_total 138 = .ok (.ireturn, 1) := dk_172 (dk_at dksX9_total_4 8 rfl rfl)
theorem dX9_total_139 : decode cX9_total 139 = .ok (.aload_n 0, 1) := dk_42 (dk_at dksX9_total_4 9 rfl rfl)
theorem dX9_total_140 : decode cX9_total 140 = .ok (.getfield 292, 3) := dk_180 1 36 (dk_at dksX9_total_4 10 rfl rfl)
theorem dX9_total_143 : decode cX9_total 143 = .ok (.ireturn, 1) := dk_172 (dk_at dksX9_total_4 13 rfl rfl)
theorem dX9_total_144 : decode cX9_total 144 = .ok (.aload_n 0, 1) := dk_42 (dk_at dksX9_total_4 14 rfl rfl)
theorem dX9_total_145 : decode cX9_total 145 = .ok (.iconst 1, 1) := dk_4 (dk_at dksX9_total_4 15 rfl rfl)
theorem dX9_total_146 : decode cX9_total 146 = .ok (.invokevirtual 181, 3) := dk_182 0 181 (dk_at dksX9_total_4 16 rfl rfl)
theorem dX9_total_149 : decode cX9_total 149 = .ok (.ireturn, 1) := dk_172 (dk_at dksX9_total_4 19 rfl rfl)
abbrev cX9_walls : ByteArray := prog_16_method_79_code
def yX9_walls : MethodName := ⟨RX9, "walls", "()I"⟩
def dkwX9_walls_1 : List UInt8 := [132, 2, 1, 167, 255, 233, 27, 172]
abbrev dktX9_walls_1 : List UInt8 := dkwX9_walls_1 ++ []
def dkwX9_walls_0 : List UInt8 := [3, 60, 3, 61, 28, 42, 182, 0, 84, 162, 0, 21, 27, 42, 180, 0, 7, 16, 15, 28, 96, 46, 96, 60]
abbrev dktX9_walls_0 : List UInt8 := dkwX9_walls_0 ++ dktX9_walls_1
theorem dksX9_walls_0 : cX9_walls.data.toList.drop 0 = dktX9_walls_0 := by decide +kernel
theorem dksX9_walls_1 : cX9_walls.data.toList.drop 24 = dktX9_walls_1 := dk_seg dksX9_walls_0 24 rfl rfl
theorem dX9_walls_0 : decode cX9_walls 0 = .ok (.iconst 0, 1) := dk_3 (dk_at dksX9_walls_0 0 rfl rfl)
theorem dX9_walls_1 : decode cX9_walls 1 = .ok (.istore_n 1, 1) := dk_60 (dk_at dksX9_walls_0 1 rfl rfl)
theorem dX9_walls_2 : decode cX9_walls 2 = .ok (.iconst 0, 1) := dk_3 (dk_at dksX9_walls_0 2 rfl rfl)
theorem dX9_walls_3 : decode cX9_walls 3 = .ok (.istore_n 2, 1) := dk_61 (dk_at dksX9_walls_0 3 rfl rfl)
theorem dX9_walls_4 : decode cX9_walls 4 = .ok (.iload_n 2, 1) := dk_28 (dk_at dksX9_walls_0 4 rfl rfl)
theorem dX9_walls_5 : decode cX9_walls 5 = .ok (.aload_n 0, 1) := dk_42 (dk_at dksX9_walls_0 5 rfl rfl)
theorem dX9_walls_6 : decode cX9_walls 6 = .ok (.invokevirtual 84, 3) := dk_182 0 84 (dk_at dksX9_walls_0 6 rfl rfl)
theorem dX9_walls_9 : decode cX9_walls 9 = .ok (.if_icmp .ge 21, 3) := dk_162 0 21 (dk_at dksX9_walls_0 9 rfl rfl)
theorem dX9_walls_12 : decode cX9_walls 12 = .ok (.iload_n 1, 1) := dk_27 (dk_at dksX9_walls_0 12 rfl rfl)
theorem dX9_walls_13 : decode cX9_walls 13 = .ok (.aload_n 0, 1) := dk_42 (dk_at dksX9_walls_0 13 rfl rfl)
theorem dX9_walls_14 : decode cX9_walls 14 = .ok (.getfield 7, 3) := dk_180 0 7 (dk_at dksX9_walls_0 14 rfl rfl)
theorem dX9_walls_17 : decode cX9_walls 17 = .ok (.bipush 15, 2) := dk_16 15 (dk_at dksX9_walls_0 17 rfl rfl)
theorem dX9_walls_19 : decode cX9_walls 19 = .ok (.iload_n 2, 1) := dk_28 (dk_at dksX9_walls_0 19 rfl rfl)
theorem dX9_walls_20 : decode cX9_walls 20 = .ok (.iadd, 1) := dk_96 (dk_at dksX9_walls_0 20 rfl rfl)
theorem dX9_walls_21 : decode cX9_walls 21 = .ok (.iaload, 1) := dk_46 (dk_at dksX9_walls_0 21 rfl rfl)
theorem dX9_walls_22 : decode cX9_walls 22 = .ok (.iadd, 1) := dk_96 (dk_at dksX9_walls_0 22 rfl rfl)
theorem dX9_walls_23 : decode cX9_walls 23 = .ok (.istore_n 1, 1) := dk_60 (dk_at dksX9_walls_0 23 rfl rfl)
theorem dX9_walls_24 : decode cX9_walls 24 = .ok (.iinc 2 1, 3) := dk_132 2 1 (dk_at dksX9_walls_1 0 rfl rfl)
theorem dX9_walls_27 : decode cX9_walls 27 = .ok (.goto (-23), 3) := dk_167 255 233 (dk_at dksX9_walls_1 3 rfl rfl)
theorem dX9_walls_30 : decode cX9_walls 30 = .ok (.iload_n 1, 1) := dk_27 (dk_at dksX9_walls_1 6 rfl rfl)
theorem dX9_walls_31 : decode cX9_walls 31 = .ok (.ireturn, 1) := dk_172 (dk_at dksX9_walls_1 7 rfl rfl)
abbrev cX9_lettersThat : ByteArray := prog_16_method_78_code
def yX9_lettersThat : MethodName := ⟨RX9, "lettersThat", "(I)I"⟩
def dkwX9_lettersThat_1 : List UInt8 := [160, 0, 7, 4, 167, 0, 4, 3, 96, 61, 132, 3, 1, 167, 255, 224, 28, 172]
abbrev dktX9_lettersThat_1 : List UInt8 := dkwX9_lettersThat_1 ++ []
def dkwX9_lettersThat_0 : List UInt8 := [3, 61, 3, 62, 29, 42, 180, 0, 7, 16, 6, 46, 162, 0, 27, 28, 42, 29, 5, 182, 0, 160, 27]
abbrev dktX9_lettersThat_0 : List UInt8 := dkwX9_lettersThat_0 ++ dktX9_lettersThat_1
theorem dksX9_lettersThat_0 : cX9_lettersThat.data.toList.drop 0 = dktX9_lettersThat_0 := by decide +kernel
theorem dksX9_lettersThat_1 : cX9_lettersThat.data.toList.drop 23 = dktX9_lettersThat_1 := dk_seg dksX9_lettersThat_0 23 rfl rfl
theorem dX9_lettersThat_0 : decode cX9_lettersThat 0 = .ok (.iconst 0, 1) := dk_3 (dk_at dksX9_lettersThat_0 0 rfl rfl)
theorem dX9_lettersThat_1 : decode cX9_lettersThat 1 = .ok (.istore_n 2, 1) := dk_61 (dk_at dksX9_lettersThat_0 1 rfl rfl)
theorem dX9_lettersThat_2 : decode cX9_lettersThat 2 = .ok (.iconst 0, 1) := dk_3 (dk_at dksX9_lettersThat_0 2 rfl rfl)
theorem dX9_lettersThat_3 : decode cX9_lettersThat 3 = .ok (.istore_n 3, 1) := dk_62 (dk_at dksX9_lettersThat_0 3 rfl rfl)
theorem dX9_lettersThat_4 : decode cX9_lettersThat 4 = .ok (.iload_n 3, 1) := dk_29 (dk_at dksX9_lettersThat_0 4 rfl rfl)
theorem dX9_lettersThat_5 : decode cX9_lettersThat 5 = .ok (.aload_n 0, 1) := dk_42 (dk_at dksX9_lettersThat_0 5 rfl rfl)
theorem dX9_lettersThat_6 : decode cX9_lettersThat 6 = .ok (.getfield 7, 3) := dk_180 0 7 (dk_at dksX9_lettersThat_0 6 rfl rfl)
theorem dX9_lettersThat_9 : decode cX9_lettersThat 9 = .ok (.bipush 6, 2) := dk_16 6 (dk_at dksX9_lettersThat_0 9 rfl rfl)
theorem dX9_lettersThat_11 : decode cX9_lettersThat 11 = .ok (.iaload, 1) := dk_46 (dk_at dksX9_lettersThat_0 11 rfl rfl)
theorem dX9_lettersThat_12 : decode cX9_lettersThat 12 = .ok (.if_icmp .ge 27, 3) := dk_162 0 27 (dk_at dksX9_lettersThat_0 12 rfl rfl)
theorem dX9_lettersThat_15 : decode cX9_lettersThat 15 = .ok (.iload_n 2, 1) := dk_28 (dk_at dksX9_lettersThat_0 15 rfl rfl)
theorem dX9_lettersThat_16 : decode cX9_lettersThat 16 = .ok (.aload_n 0, 1) := dk_42 (dk_at dksX9_lettersThat_0 16 rfl rfl)
theorem dX9_lettersThat_17 : decode cX9_lettersThat 17 = .ok (.iload_n 3, 1) := dk_29 (dk_at dksX9_lettersThat_0 17 rfl rfl)
theorem dX9_lettersThat_18 : decode cX9_lettersThat 18 = .ok (.iconst 2, 1) := dk_5 (dk_at dksX9_lettersThat_0 18 rfl rfl)
theorem dX9_lettersThat_19 : decode cX9_lettersThat 19 = .ok (.invokevirtual 160, 3) := dk_182 0 160 (dk_at dksX9_lettersThat_0 19 rfl rfl)
theorem dX9_lettersThat_22 : decode cX9_lettersThat 22 = .ok (.iload_n 1, 1) := dk_27 (dk_at dksX9_lettersThat_0 22 rfl rfl)
theorem dX9_lettersThat_23 : decode cX9_lettersThat 23 = .ok (.if_icmp .ne 7, 3) := dk_160 0 7 (dk_at dksX9_lettersThat_1 0 rfl rfl)
theorem dX9_lettersThat_26 : decode cX9_lettersThat 26 = .ok (.iconst 1, 1) := dk_4 (dk_at dksX9_lettersThat_1 3 rfl rfl)
theorem dX9_lettersThat_27 : decode cX9_lettersThat 27 = .ok (.goto 4, 3) := dk_167 0 4 (dk_at dksX9_lettersThat_1 4 rfl rfl)
theorem dX9_lettersThat_30 : decode cX9_lettersThat 30 = .ok (.iconst 0, 1) := dk_3 (dk_at dksX9_lettersThat_1 7 rfl rfl)
theorem dX9_lettersThat_31 : decode cX9_lettersThat 31 = .ok (.iadd, 1) := dk_96 (dk_at dksX9_lettersThat_1 8 rfl rfl)
theorem dX9_lettersThat_32 : decode cX9_lettersThat 32 = .ok (.istore_n 2, 1) := dk_61 (dk_at dksX9_lettersThat_1 9 rfl rfl)
theorem dX9_lettersThat_33 : decode cX9_lettersThat 33 = .ok (.iinc 3 1, 3) := dk_132 3 1 (dk_at dksX9_lettersThat_1 10 rfl rfl)
theorem dX9_lettersThat_36 : decode cX9_lettersThat 36 = .ok (.goto (-32), 3) := dk_167 255 224 (dk_at dksX9_lettersThat_1 13 rfl rfl)
theorem dX9_lettersThat_39 : decode cX9_lettersThat 39 = .ok (.iload_n 2, 1) := dk_28 (dk_at dksX9_lettersThat_1 16 rfl rfl)
theorem dX9_lettersThat_40 : decode cX9_lettersThat 40 = .ok (.ireturn, 1) := dk_172 (dk_at dksX9_lettersThat_1 17 rfl rfl)
abbrev cX9_seenCells : ByteArray := prog_16_method_38_code
def yX9_seenCells : MethodName := ⟨RX9, "seenCells", "()I"⟩
def dkwX9_seenCells_1 : List UInt8 := [153, 0, 7, 4, 167, 0, 4, 3, 96, 60, 132, 2, 1, 167, 255, 228, 27, 172]
abbrev dktX9_seenCells_1 : List UInt8 := dkwX9_seenCells_1 ++ []
def dkwX9_seenCells_0 : List UInt8 := [42, 182, 0, 145, 3, 60, 3, 61, 28, 42, 182, 0, 84, 162, 0, 26, 27, 42, 180, 0, 29, 28, 51]
abbrev dktX9_seenCells_0 : List UInt8 := dkwX9_seenCells_0 ++ dktX9_seenCells_1
theorem dksX9_seenCells_0 : cX9_seenCells.data.toList.drop 0 = dktX9_seenCells_0 := by decide +kernel
theorem dksX9_seenCells_1 : cX9_seenCells.data.toList.drop 23 = dktX9_seenCells_1 := dk_seg dksX9_seenCells_0 23 rfl rfl
theorem dX9_seenCells_0 : decode cX9_seenCells 0 = .ok (.aload_n 0, 1) := dk_42 (dk_at dksX9_seenCells_0 0 rfl rfl)
theorem dX9_seenCells_1 : decode cX9_seenCells 1 = .ok (.invokevirtual 145, 3) := dk_182 0 145 (dk_at dksX9_seenCells_0 1 rfl rfl)
theorem dX9_seenCells_4 : decode cX9_seenCells 4 = .ok (.iconst 0, 1) := dk_3 (dk_at dksX9_seenCells_0 4 rfl rfl)
theorem dX9_seenCells_5 : decode cX9_seenCells 5 = .ok (.istore_n 1, 1) := dk_60 (dk_at dksX9_seenCells_0 5 rfl rfl)
theorem dX9_seenCells_6 : decode cX9_seenCells 6 = .ok (.iconst 0, 1) := dk_3 (dk_at dksX9_seenCells_0 6 rfl rfl)
theorem dX9_seenCells_7 : decode cX9_seenCells 7 = .ok (.istore_n 2, 1) := dk_61 (dk_at dksX9_seenCells_0 7 rfl rfl)
theorem dX9_seenCells_8 : decode cX9_seenCells 8 = .ok (.iload_n 2, 1) := dk_28 (dk_at dksX9_seenCells_0 8 rfl rfl)
theorem dX9_seenCells_9 : decode cX9_seenCells 9 = .ok (.aload_n 0, 1) := dk_42 (dk_at dksX9_seenCells_0 9 rfl rfl)
theorem dX9_seenCells_10 : decode cX9_seenCells 10 = .ok (.invokevirtual 84, 3) := dk_182 0 84 (dk_at dksX9_seenCells_0 10 rfl rfl)
theorem dX9_seenCells_13 : decode cX9_seenCells 13 = .ok (.if_icmp .ge 26, 3) := dk_162 0 26 (dk_at dksX9_seenCells_0 13 rfl rfl)
theorem dX9_seenCells_16 : decode cX9_seenCells 16 = .ok (.iload_n 1, 1) := dk_27 (dk_at dksX9_seenCells_0 16 rfl rfl)
theorem dX9_seenCells_17 : decode cX9_seenCells 17 = .ok (.aload_n 0, 1) := dk_42 (dk_at dksX9_seenCells_0 17 rfl rfl)
theorem dX9_seenCells_18 : decode cX9_seenCells 18 = .ok (.getfield 29, 3) := dk_180 0 29 (dk_at dksX9_seenCells_0 18 rfl rfl)
theorem dX9_seenCells_21 : decode cX9_seenCells 21 = .ok (.iload_n 2, 1) := dk_28 (dk_at dksX9_seenCells_0 21 rfl rfl)
theorem dX9_seenCells_22 : decode cX9_seenCells 22 = .ok (.baload, 1) := dk_51 (dk_at dksX9_seenCells_0 22 rfl rfl)
theorem dX9_seenCells_23 : decode cX9_seenCells 23 = .ok (.ifCond .eq 7, 3) := dk_153 0 7 (dk_at dksX9_seenCells_1 0 rfl rfl)
theorem dX9_seenCells_26 : decode cX9_seenCells 26 = .ok (.iconst 1, 1) := dk_4 (dk_at dksX9_seenCells_1 3 rfl rfl)
theorem dX9_seenCells_27 : decode cX9_seenCells 27 = .ok (.goto 4, 3) := dk_167 0 4 (dk_at dksX9_seenCells_1 4 rfl rfl)
theorem dX9_seenCells_30 : decode cX9_seenCells 30 = .ok (.iconst 0, 1) := dk_3 (dk_at dksX9_seenCells_1 7 rfl rfl)
theorem dX9_seenCells_31 : decode cX9_seenCells 31 = .ok (.iadd, 1) := dk_96 (dk_at dksX9_seenCells_1 8 rfl rfl)
theorem dX9_seenCells_32 : decode cX9_seenCells 32 = .ok (.istore_n 1, 1) := dk_60 (dk_at dksX9_seenCells_1 9 rfl rfl)
theorem dX9_seenCells_33 : decode cX9_seenCells 33 = .ok (.iinc 2 1, 3) := dk_132 2 1 (dk_at dksX9_seenCells_1 10 rfl rfl)
theorem dX9_seenCells_36 : decode cX9_seenCells 36 = .ok (.goto (-28), 3) := dk_167 255 228 (dk_at dksX9_seenCells_1 13 rfl rfl)
theorem dX9_seenCells_39 : decode cX9_seenCells 39 = .ok (.iload_n 1, 1) := dk_27 (dk_at dksX9_seenCells_1 16 rfl rfl)
theorem dX9_seenCells_40 : decode cX9_seenCells 40 = .ok (.ireturn, 1) := dk_172 (dk_at dksX9_seenCells_1 17 rfl rfl)
abbrev cX9_tally : ByteArray := prog_16_method_81_code
def yX9_tally : MethodName := ⟨RX9, "tally", "(I)I"⟩
def dkwX9_tally_1 : List UInt8 := [167, 0, 8, 42, 4, 182, 0, 181, 172]
abbrev dktX9_tally_1 : List UInt8 := dkwX9_tally_1 ++ []
def dkwX9_tally_0 : List UInt8 := [42, 3, 181, 0, 77, 27, 3, 16, 6, 184, 0, 88, 153, 0, 15, 42, 180, 0, 7, 16, 8, 27, 96, 46]
abbrev dktX9_tally_0 : List UInt8 := dkwX9_tally_0 ++ dktX9_tally_1
theorem dksX9_tally_0 : cX9_tally.data.toList.drop 0 = dktX9_tally_0 := by decide +kernel
theorem dksX9_tally_1 : cX9_tally.data.toList.drop 24 = dktX9_tally_1 := dk_seg dksX9_tally_0 24 rfl rfl
theorem dX9_tally_0 : decode cX9_tally 0 = .ok (.aload_n 0, 1) := dk_42 (dk_at dksX9_tally_0 0 rfl rfl)
theorem dX9_tally_1 : decode cX9_tally 1 = .ok (.iconst 0, 1) := dk_3 (dk_at dksX9_tally_0 1 rfl rfl)
theorem dX9_tally_2 : decode cX9_tally 2 = .ok (.putfield 77, 3) := dk_181 0 77 (dk_at dksX9_tally_0 2 rfl rfl)
theorem dX9_tally_5 : decode cX9_tally 5 = .ok (.iload_n 1, 1) := dk_27 (dk_at dksX9_tally_0 5 rfl rfl)
theorem dX9_tally_6 : decode cX9_tally 6 = .ok (.iconst 0, 1) := dk_3 (dk_at dksX9_tally_0 6 rfl rfl)
theorem dX9_tally_7 : decode cX9_tally 7 = .ok (.bipush 6, 2) := dk_16 6 (dk_at dksX9_tally_0 7 rfl rfl)
theorem dX9_tally_9 : decode cX9_tally 9 = .ok (.invokestatic 88, 3) := dk_184 0 88 (dk_at dksX9_tally_0 9 rfl rfl)
theorem dX9_tally_12 : decode cX9_tally 12 = .ok (.ifCond .eq 15, 3) := dk_153 0 15 (dk_at dksX9_tally_0 12 rfl rfl)
theorem dX9_tally_15 : decode cX9_tally 15 = .ok (.aload_n 0, 1) := dk_42 (dk_at dksX9_tally_0 15 rfl rfl)
theorem dX9_tally_16 : decode cX9_tally 16 = .ok (.getfield 7, 3) := dk_180 0 7 (dk_at dksX9_tally_0 16 rfl rfl)
theorem dX9_tally_19 : decode cX9_tally 19 = .ok (.bipush 8, 2) := dk_16 8 (dk_at dksX9_tally_0 19 rfl rfl)
theorem dX9_tally_21 : decode cX9_tally 21 = .ok (.iload_n 1, 1) := dk_27 (dk_at dksX9_tally_0 21 rfl rfl)
theorem dX9_tally_22 : decode cX9_tally 22 = .ok (.iadd, 1) := dk_96 (dk_at dksX9_tally_0 22 rfl rfl)
theorem dX9_tally_23 : decode cX9_tally 23 = .ok (.iaload, 1) := dk_46 (dk_at dksX9_tally_0 23 rfl rfl)
theorem dX9_tally_24 : decode cX9_tally 24 = .ok (.goto 8, 3) := dk_167 0 8 (dk_at dksX9_tally_1 0 rfl rfl)
theorem dX9_tally_27 : decode cX9_tally 27 = .ok (.aload_n 0, 1) := dk_42 (dk_at dksX9_tally_1 3 rfl rfl)
theorem dX9_tally_28 : decode cX9_tally 28 = .ok (.iconst 1, 1) := dk_4 (dk_at dksX9_tally_1 4 rfl rfl)
theorem dX9_tally_29 : decode cX9_tally 29 = .ok (.invokevirtual 181, 3) := dk_182 0 181 (dk_at dksX9_tally_1 5 rfl rfl)
theorem dX9_tally_32 : decode cX9_tally 32 = .ok (.ireturn, 1) := dk_172 (dk_at dksX9_tally_1 8 rfl rfl)
abbrev cX9_cell : ByteArray := prog_16_method_87_code
def yX9_cell : MethodName := ⟨RX9, "cell", "(II)I"⟩
def dkwX9_cell_3 : List UInt8 := [182, 1, 103, 172, 42, 27, 182, 1, 106, 172, 42, 27, 182, 1, 109, 172, 42, 5, 182, 0, 181, 172]
abbrev dktX9_cell_3 : List UInt8 := dkwX9_cell_3 ++ []
def dkwX9_cell_2 : List UInt8 := [42, 180, 0, 7, 16, 15, 27, 96, 46, 172, 42, 27, 182, 0, 132, 172, 42, 27, 182, 1, 100, 172, 42, 27]
abbrev dktX9_cell_2 : List UInt8 := dkwX9_cell_2 ++ dktX9_cell_3
def dkwX9_cell_1 : List UInt8 := [170, 0, 0, 0, 0, 0, 0, 80, 0, 0, 0, 0, 0, 0, 0, 5, 0, 0, 0, 40, 0, 0, 0, 50, 0, 0, 0, 56, 0, 0, 0, 62, 0, 0, 0, 68, 0, 0, 0, 74]
abbrev dktX9_cell_1 : List UInt8 := dkwX9_cell_1 ++ dktX9_cell_2
def dkwX9_cell_0 : List UInt8 := [42, 3, 181, 0, 77, 42, 27, 182, 1, 97, 154, 0, 9, 42, 4, 182, 0, 181, 172, 28]
abbrev dktX9_cell_0 : List UInt8 := dkwX9_cell_0 ++ dktX9_cell_1
theorem dksX9_cell_0 : cX9_cell.data.toList.drop 0 = dktX9_cell_0 := by decide +kernel
theorem dksX9_cell_1 : cX9_cell.data.toList.drop 20 = dktX9_cell_1 := dk_seg dksX9_cell_0 20 rfl rfl
theorem dksX9_cell_2 : cX9_cell.data.toList.drop 60 = dktX9_cell_2 := dk_seg dksX9_cell_1 40 rfl rfl
theorem dksX9_cell_3 : cX9_cell.data.toList.drop 84 = dktX9_cell_3 := dk_seg dksX9_cell_2 24 rfl rfl
theorem dX9_cell_0 : decode cX9_cell 0 = .ok (.aload_n 0, 1) := dk_42 (dk_at dksX9_cell_0 0 rfl rfl)
theorem dX9_cell_1 : decode cX9_cell 1 = .ok (.iconst 0, 1) := dk_3 (dk_at dksX9_cell_0 1 rfl rfl)
theorem dX9_cell_2 : decode cX9_cell 2 = .ok (.putfield 77, 3) := dk_181 0 77 (dk_at dksX9_cell_0 2 rfl rfl)
theorem dX9_cell_5 : decode cX9_cell 5 = .ok (.aload_n 0, 1) := dk_42 (dk_at dksX9_cell_0 5 rfl rfl)
theorem dX9_cell_6 : decode cX9_cell 6 = .ok (.iload_n 1, 1) := dk_27 (dk_at dksX9_cell_0 6 rfl rfl)
theorem dX9_cell_7 : decode cX9_cell 7 = .ok (.invokevirtual 353, 3) := dk_182 1 97 (dk_at dksX9_cell_0 7 rfl rfl)
theorem dX9_cell_10 : decode cX9_cell 10 = .ok (.ifCond .ne 9, 3) := dk_154 0 9 (dk_at dksX9_cell_0 10 rfl rfl)
theorem dX9_cell_13 : decode cX9_cell 13 = .ok (.aload_n 0, 1) := dk_42 (dk_at dksX9_cell_0 13 rfl rfl)
theorem dX9_cell_14 : decode cX9_cell 14 = .ok (.iconst 1, 1) := dk_4 (dk_at dksX9_cell_0 14 rfl rfl)
theorem dX9_cell_15 : decode cX9_cell 15 = .ok (.invokevirtual 181, 3) := dk_182 0 181 (dk_at dksX9_cell_0 15 rfl rfl)
theorem dX9_cell_18 : decode cX9_cell 18 = .ok (.ireturn, 1) := dk_172 (dk_at dksX9_cell_0 18 rfl rfl)
theorem dX9_cell_19 : decode cX9_cell 19 = .ok (.iload_n 2, 1) := dk_28 (dk_at dksX9_cell_0 19 rfl rfl)
theorem dX9_cell_20 : decode cX9_cell 20 = .ok (.tableswitch 80 0 5 #[40, 50, 56, 62, 68, 74], 40) := by decide +kernel
theorem dX9_cell_60 : decode cX9_cell 60 = .ok (.aload_n 0, 1) := dk_42 (dk_at dksX9_cell_2 0 rfl rfl)
theorem dX9_cell_61 : decode cX9_cell 61 = .ok (.getfield 7, 3) := dk_180 0 7 (dk_at dksX9_cell_2 1 rfl rfl)
theorem dX9_cell_64 : decode cX9_cell 64 = .ok (.bipush 15, 2) := dk_16 15 (dk_at dksX9_cell_2 4 rfl rfl)
theorem dX9_cell_66 : decode cX9_cell 66 = .ok (.iload_n 1, 1) := dk_27 (dk_at dksX9_cell_2 6 rfl rfl)
theorem dX9_cell_67 : decode cX9_cell 67 = .ok (.iadd, 1) := dk_96 (dk_at dksX9_cell_2 7 rfl rfl)
theorem dX9_cell_68 : decode cX9_cell 68 = .ok (.iaload, 1) := dk_46 (dk_at dksX9_cell_2 8 rfl rfl)
theorem dX9_cell_69 : decode cX9_cell 69 = .ok (.ireturn, 1) := dk_172 (dk_at dksX9_cell_2 9 rfl rfl)
theorem dX9_cell_70 : decode cX9_cell 70 = .ok (.aload_n 0, 1) := dk_42 (dk_at dksX9_cell_2 10 rfl rfl)
theorem dX9_cell_71 : decode cX9_cell 71 = .ok (.iload_n 1, 1) := dk_27 (dk_at dksX9_cell_2 11 rfl rfl)
theorem dX9_cell_72 : decode cX9_cell 72 = .ok (.invokevirtual 132, 3) := dk_182 0 132 (dk_at dksX9_cell_2 12 rfl rfl)
theorem dX9_cell_75 : decode cX9_cell 75 = .ok (.ireturn, 1) := dk_172 (dk_at dksX9_cell_2 15 rfl rfl)
theorem dX9_cell_76 : decode cX9_cell 76 = .ok (.aload_n 0, 1) := dk_42 (dk_at dksX9_cell_2 16 rfl rfl)
theorem dX9_cell_77 : decode cX9_cell 77 = .ok (.iload_n 1, 1) := dk_27 (dk_at dksX9_cell_2 17 rfl rfl)
theorem dX9_cell_78 : decode cX9_cell 78 = .ok (.invokevirtual 356, 3) := dk_182 1 100 (dk_at dksX9_cell_2 18 rfl rfl)
theorem dX9_cell_81 : decode cX9_cell 81 = .ok (.ireturn, 1) := dk_172 (dk_at dksX9_cell_2 21 rfl rfl)
theorem dX9_cell_82 : decode cX9_cell 82 = .ok (.aload_n 0, 1) := dk_42 (dk_at dksX9_cell_2 22 rfl rfl)
theorem dX9_cell_83 : decode cX9_cell 83 = .ok (.iload_n 1, 1) := dk_27 (dk_at dksX9_cell_2 23 rfl rfl)
theorem dX9_cell_84 : decode cX9_cell 84 = .ok (.invokevirtual 359, 3) := dk_182 1 103 (dk_at dksX9_cell_3 0 rfl rfl)
theorem dX9_cell_87 : decode cX9_cell 87 = .ok (.ireturn, 1) := dk_172 (dk_at dksX9_cell_3 3 rfl rfl)
theorem dX9_cell_88 : decode cX9_cell 88 = .ok (.aload_n 0, 1) := dk_42 (dk_at dksX9_cell_3 4 rfl rfl)
theorem dX9_cell_89 : decode cX9_cell 89 = .ok (.iload_n 1, 1) := dk_27 (dk_at dksX9_cell_3 5 rfl rfl)
theorem dX9_cell_90 : decode cX9_cell 90 = .ok (.invokevirtual 362, 3) := dk_182 1 106 (dk_at dksX9_cell_3 6 rfl rfl)
theorem dX9_cell_93 : decode cX9_cell 93 = .ok (.ireturn, 1) := dk_172 (dk_at dksX9_cell_3 9 rfl rfl)
theorem dX9_cell_94 : decode cX9_cell 94 = .ok (.aload_n 0, 1) := dk_42 (dk_at dksX9_cell_3 10 rfl rfl)
theorem dX9_cell_95 : decode cX9_cell 95 = .ok (.iload_n 1, 1) := dk_27 (dk_at dksX9_cell_3 11 rfl rfl)
theorem dX9_cell_96 : decode cX9_cell 96 = .ok (.invokevirtual 365, 3) := dk_182 1 109 (dk_at dksX9_cell_3 12 rfl rfl)
theorem dX9_cell_99 : decode cX9_cell 99 = .ok (.ireturn, 1) := dk_172 (dk_at dksX9_cell_3 15 rfl rfl)
theorem dX9_cell_100 : decode cX9_cell 100 = .ok (.aload_n 0, 1) := dk_42 (dk_at dksX9_cell_3 16 rfl rfl)
theorem dX9_cell_101 : decode cX9_cell 101 = .ok (.iconst 2, 1) := dk_5 (dk_at dksX9_cell_3 17 rfl rfl)
theorem dX9_cell_102 : decode cX9_cell 102 = .ok (.invokevirtual 181, 3) := dk_182 0 181 (dk_at dksX9_cell_3 18 rfl rfl)
theorem dX9_cell_105 : decode cX9_cell 105 = .ok (.ireturn, 1) := dk_172 (dk_at dksX9_cell_3 21 rfl rfl)
abbrev cX9_isCell : ByteArray := prog_16_method_19_code
def yX9_isCell : MethodName := ⟨RX9, "isCell", "(I)Z"⟩
def dkwX9_isCell_0 : List UInt8 := [27, 3, 42, 182, 0, 84, 4, 100, 184, 0, 88, 172]
abbrev dktX9_isCell_0 : List UInt8 := dkwX9_isCell_0 ++ []
theorem dksX9_isCell_0 : cX9_isCell.data.toList.drop 0 = dktX9_isCell_0 := by decide +kernel
theorem dX9_isCell_0 : decode cX9_isCell 0 = .ok (.iload_n 1, 1) := dk_27 (dk_at dksX9_isCell_0 0 rfl rfl)
theorem dX9_isCell_1 : decode cX9_isCell 1 = .ok (.iconst 0, 1) := dk_3 (dk_at dksX9_isCell_0 1 rfl rfl)
theorem dX9_isCell_2 : decode cX9_isCell 2 = .ok (.aload_n 0, 1) := dk_42 (dk_at dksX9_isCell_0 2 rfl rfl)
theorem dX9_isCell_3 : decode cX9_isCell 3 = .ok (.invokevirtual 84, 3) := dk_182 0 84 (dk_at dksX9_isCell_0 3 rfl rfl)
theorem dX9_isCell_6 : decode cX9_isCell 6 = .ok (.iconst 1, 1) := dk_4 (dk_at dksX9_isCell_0 6 rfl rfl)
theorem dX9_isCell_7 : decode cX9_isCell 7 = .ok (.isub, 1) := dk_100 (dk_at dksX9_isCell_0 7 rfl rfl)
theorem dX9_isCell_8 : decode cX9_isCell 8 = .ok (.invokestatic 88, 3) := dk_184 0 88 (dk_at dksX9_isCell_0 8 rfl rfl)
theorem dX9_isCell_11 : decode cX9_isCell 11 = .ok (.ireturn, 1) := dk_172 (dk_at dksX9_isCell_0 11 rfl rfl)
abbrev cX9_seers : ByteArray := prog_16_method_82_code
def yX9_seers : MethodName := ⟨RX9, "seers", "(I)I"⟩
def dkwX9_seers_1 : List UInt8 := [4, 167, 0, 4, 3, 96, 61, 132, 3, 1, 167, 255, 226, 28, 172]
abbrev dktX9_seers_1 : List UInt8 := dkwX9_seers_1 ++ []
def dkwX9_seers_0 : List UInt8 := [3, 61, 3, 62, 29, 42, 180, 0, 7, 7, 46, 162, 0, 26, 28, 42, 29, 27, 182, 0, 141, 153, 0, 7]
abbrev dktX9_seers_0 : List UInt8 := dkwX9_seers_0 ++ dktX9_seers_1
theorem dksX9_seers_0 : cX9_seers.data.toList.drop 0 = dktX9_seers_0 := by decide +kernel
theorem dksX9_seers_1 : cX9_seers.data.toList.drop 24 = dktX9_seers_1 := dk_seg dksX9_seers_0 24 rfl rfl
theorem dX9_seers_0 : decode cX9_seers 0 = .ok (.iconst 0, 1) := dk_3 (dk_at dksX9_seers_0 0 rfl rfl)
theorem dX9_seers_1 : decode cX9_seers 1 = .ok (.istore_n 2, 1) := dk_61 (dk_at dksX9_seers_0 1 rfl rfl)
theorem dX9_seers_2 : decode cX9_seers 2 = .ok (.iconst 0, 1) := dk_3 (dk_at dksX9_seers_0 2 rfl rfl)
theorem dX9_seers_3 : decode cX9_seers 3 = .ok (.istore_n 3, 1) := dk_62 (dk_at dksX9_seers_0 3 rfl rfl)
theorem dX9_seers_4 : decode cX9_seers 4 = .ok (.iload_n 3, 1) := dk_29 (dk_at dksX9_seers_0 4 rfl rfl)
theorem dX9_seers_5 : decode cX9_seers 5 = .ok (.aload_n 0, 1) := dk_42 (dk_at dksX9_seers_0 5 rfl rfl)
theorem dX9_seers_6 : decode cX9_seers 6 = .ok (.getfield 7, 3) := dk_180 0 7 (dk_at dksX9_seers_0 6 rfl rfl)
theorem dX9_seers_9 : decode cX9_seers 9 = .ok (.iconst 4, 1) := dk_7 (dk_at dksX9_seers_0 9 rfl rfl)
theorem dX9_seers_10 : decode cX9_seers 10 = .ok (.iaload, 1) := dk_46 (dk_at dksX9_seers_0 10 rfl rfl)
theorem dX9_seers_11 : decode cX9_seers 11 = .ok (.if_icmp .ge 26, 3) := dk_162 0 26 (dk_at dksX9_seers_0 11 rfl rfl)
theorem dX9_seers_14 : decode cX9_seers 14 = .ok (.iload_n 2, 1) := dk_28 (dk_at dksX9_seers_0 14 rfl rfl)
theorem dX9_seers_15 : decode cX9_seers 15 = .ok (.aload_n 0, 1) := dk_42 (dk_at dksX9_seers_0 15 rfl rfl)
theorem dX9_seers_16 : decode cX9_seers 16 = .ok (.iload_n 3, 1) := dk_29 (dk_at dksX9_seers_0 16 rfl rfl)
theorem dX9_seers_17 : decode cX9_seers 17 = .ok (.iload_n 1, 1) := dk_27 (dk_at dksX9_seers_0 17 rfl rfl)
theorem dX9_seers_18 : decode cX9_seers 18 = .ok (.invokevirtual 141, 3) := dk_182 0 141 (dk_at dksX9_seers_0 18 rfl rfl)
theorem dX9_seers_21 : decode cX9_seers 21 = .ok (.ifCond .eq 7, 3) := dk_153 0 7 (dk_at dksX9_seers_0 21 rfl rfl)
theorem dX9_seers_24 : decode cX9_seers 24 = .ok (.iconst 1, 1) := dk_4 (dk_at dksX9_seers_1 0 rfl rfl)
theorem dX9_seers_25 : decode cX9_seers 25 = .ok (.goto 4, 3) := dk_167 0 4 (dk_at dksX9_seers_1 1 rfl rfl)
theorem dX9_seers_28 : decode cX9_seers 28 = .ok (.iconst 0, 1) := dk_3 (dk_at dksX9_seers_1 4 rfl rfl)
theorem dX9_seers_29 : decode cX9_seers 29 = .ok (.iadd, 1) := dk_96 (dk_at dksX9_seers_1 5 rfl rfl)
theorem dX9_seers_30 : decode cX9_seers 30 = .ok (.istore_n 2, 1) := dk_61 (dk_at dksX9_seers_1 6 rfl rfl)
theorem dX9_seers_31 : decode cX9_seers 31 = .ok (.iinc 3 1, 3) := dk_132 3 1 (dk_at dksX9_seers_1 7 rfl rfl)
theorem dX9_seers_34 : decode cX9_seers 34 = .ok (.goto (-30), 3) := dk_167 255 226 (dk_at dksX9_seers_1 10 rfl rfl)
theorem dX9_seers_37 : decode cX9_seers 37 = .ok (.iload_n 2, 1) := dk_28 (dk_at dksX9_seers_1 13 rfl rfl)
theorem dX9_seers_38 : decode cX9_seers 38 = .ok (.ireturn, 1) := dk_172 (dk_at dksX9_seers_1 14 rfl rfl)
abbrev cX9_couriersOn : ByteArray := prog_16_method_83_code
def yX9_couriersOn : MethodName := ⟨RX9, "couriersOn", "(I)I"⟩
def dkwX9_couriersOn_1 : List UInt8 := [160, 0, 7, 4, 167, 0, 4, 3, 96, 61, 132, 3, 1, 167, 255, 225, 28, 172]
abbrev dktX9_couriersOn_1 : List UInt8 := dkwX9_couriersOn_1 ++ []
def dkwX9_couriersOn_0 : List UInt8 := [3, 61, 3, 62, 29, 42, 180, 0, 7, 8, 46, 162, 0, 27, 28, 42, 29, 3, 182, 0, 80, 27]
abbrev dktX9_couriersOn_0 : List UInt8 := dkwX9_couriersOn_0 ++ dktX9_couriersOn_1
theorem dksX9_couriersOn_0 : cX9_couriersOn.data.toList.drop 0 = dktX9_couriersOn_0 := by decide +kernel
theorem dksX9_couriersOn_1 : cX9_couriersOn.data.toList.drop 22 = dktX9_couriersOn_1 := dk_seg dksX9_couriersOn_0 22 rfl rfl
theorem dX9_couriersOn_0 : decode cX9_couriersOn 0 = .ok (.iconst 0, 1) := dk_3 (dk_at dksX9_couriersOn_0 0 rfl rfl)
theorem dX9_couriersOn_1 : decode cX9_couriersOn 1 = .ok (.istore_n 2, 1) := dk_61 (dk_at dksX9_couriersOn_0 1 rfl rfl)
theorem dX9_couriersOn_2 : decode cX9_couriersOn 2 = .ok (.iconst 0, 1) := dk_3 (dk_at dksX9_couriersOn_0 2 rfl rfl)
theorem dX9_couriersOn_3 : decode cX9_couriersOn 3 = .ok (.istore_n 3, 1) := dk_62 (dk_at dksX9_couriersOn_0 3 rfl rfl)
theorem dX9_couriersOn_4 : decode cX9_couriersOn 4 = .ok (.iload_n 3, 1) := dk_29 (dk_at dksX9_couriersOn_0 4 rfl rfl)
theorem dX9_couriersOn_5 : decode cX9_couriersOn 5 = .ok (.aload_n 0, 1) := dk_42 (dk_at dksX9_couriersOn_0 5 rfl rfl)
theorem dX9_couriersOn_6 : decode cX9_couriersOn 6 = .ok (.getfield 7, 3) := dk_180 0 7 (dk_at dksX9_couriersOn_0 6 rfl rfl)
theorem dX9_couriersOn_9 : decode cX9_couriersOn 9 = .ok (.iconst 5, 1) := dk_8 (dk_at dksX9_couriersOn_0 9 rfl rfl)
theorem dX9_couriersOn_10 : decode cX9_couriersOn 10 = .ok (.iaload, 1) := dk_46 (dk_at dksX9_couriersOn_0 10 rfl rfl)
theorem dX9_couriersOn_11 : decode cX9_couriersOn 11 = .ok (.if_icmp .ge 27, 3) := dk_162 0 27 (dk_at dksX9_couriersOn_0 11 rfl rfl)
theorem dX9_couriersOn_14 : decode cX9_couriersOn 14 = .ok (.iload_n 2, 1) := dk_28 (dk_at dksX9_couriersOn_0 14 rfl rfl)
theorem dX9_couriersOn_15 : decode cX9_couriersOn 15 = .ok (.aload_n 0, 1) := dk_42 (dk_at dksX9_couriersOn_0 15 rfl rfl)
theorem dX9_couriersOn_16 : decode cX9_couriersOn 16 = .ok (.iload_n 3, 1) := dk_29 (dk_at dksX9_couriersOn_0 16 rfl rfl)
theorem dX9_couriersOn_17 : decode cX9_couriersOn 17 = .ok (.iconst 0, 1) := dk_3 (dk_at dksX9_couriersOn_0 17 rfl rfl)
theorem dX9_couriersOn_18 : decode cX9_couriersOn 18 = .ok (.invokevirtual 80, 3) := dk_182 0 80 (dk_at dksX9_couriersOn_0 18 rfl rfl)
theorem dX9_couriersOn_21 : decode cX9_couriersOn 21 = .ok (.iload_n 1, 1) := dk_27 (dk_at dksX9_couriersOn_0 21 rfl rfl)
theorem dX9_couriersOn_22 : decode cX9_couriersOn 22 = .ok (.if_icmp .ne 7, 3) := dk_160 0 7 (dk_at dksX9_couriersOn_1 0 rfl rfl)
theorem dX9_couriersOn_25 : decode cX9_couriersOn 25 = .ok (.iconst 1, 1) := dk_4 (dk_at dksX9_couriersOn_1 3 rfl rfl)
theorem dX9_couriersOn_26 : decode cX9_couriersOn 26 = .ok (.goto 4, 3) := dk_167 0 4 (dk_at dksX9_couriersOn_1 4 rfl rfl)
theorem dX9_couriersOn_29 : decode cX9_couriersOn 29 = .ok (.iconst 0, 1) := dk_3 (dk_at dksX9_couriersOn_1 7 rfl rfl)
theorem dX9_couriersOn_30 : decode cX9_couriersOn 30 = .ok (.iadd, 1) := dk_96 (dk_at dksX9_couriersOn_1 8 rfl rfl)
theorem dX9_couriersOn_31 : decode cX9_couriersOn 31 = .ok (.istore_n 2, 1) := dk_61 (dk_at dksX9_couriersOn_1 9 rfl rfl)
theorem dX9_couriersOn_32 : decode cX9_couriersOn 32 = .ok (.iinc 3 1, 3) := dk_132 3 1 (dk_at dksX9_couriersOn_1 10 rfl rfl)
theorem dX9_couriersOn_35 : decode cX9_couriersOn 35 = .ok (.goto (-31), 3) := dk_167 255 225 (dk_at dksX9_couriersOn_1 13 rfl rfl)
theorem dX9_couriersOn_38 : decode cX9_couriersOn 38 = .ok (.iload_n 2, 1) := dk_28 (dk_at dksX9_couriersOn_1 16 rfl rfl)
theorem dX9_couriersOn_39 : decode cX9_couriersOn 39 = .ok (.ireturn, 1) := dk_172 (dk_at dksX9_couriersOn_1 17 rfl rfl)
abbrev cX9_lettersOn : ByteArray := prog_16_method_85_code
def yX9_lettersOn : MethodName := ⟨RX9, "lettersOn", "(I)I"⟩
def dkwX9_lettersOn_1 : List UInt8 := [153, 0, 7, 4, 167, 0, 4, 3, 96, 61, 132, 3, 1, 167, 255, 225, 28, 172]
abbrev dktX9_lettersOn_1 : List UInt8 := dkwX9_lettersOn_1 ++ []
def dkwX9_lettersOn_0 : List UInt8 := [3, 61, 3, 62, 29, 42, 180, 0, 7, 16, 6, 46, 162, 0, 26, 28, 42, 29, 27, 182, 1, 94]
abbrev dktX9_lettersOn_0 : List UInt8 := dkwX9_lettersOn_0 ++ dktX9_lettersOn_1
theorem dksX9_lettersOn_0 : cX9_lettersOn.data.toList.drop 0 = dktX9_lettersOn_0 := by decide +kernel
theorem dksX9_lettersOn_1 : cX9_lettersOn.data.toList.drop 22 = dktX9_lettersOn_1 := dk_seg dksX9_lettersOn_0 22 rfl rfl
theorem dX9_lettersOn_0 : decode cX9_lettersOn 0 = .ok (.iconst 0, 1) := dk_3 (dk_at dksX9_lettersOn_0 0 rfl rfl)
theorem dX9_lettersOn_1 : decode cX9_lettersOn 1 = .ok (.istore_n 2, 1) := dk_61 (dk_at dksX9_lettersOn_0 1 rfl rfl)
theorem dX9_lettersOn_2 : decode cX9_lettersOn 2 = .ok (.iconst 0, 1) := dk_3 (dk_at dksX9_lettersOn_0 2 rfl rfl)
theorem dX9_lettersOn_3 : decode cX9_lettersOn 3 = .ok (.istore_n 3, 1) := dk_62 (dk_at dksX9_lettersOn_0 3 rfl rfl)
theorem dX9_lettersOn_4 : decode cX9_lettersOn 4 = .ok (.iload_n 3, 1) := dk_29 (dk_at dksX9_lettersOn_0 4 rfl rfl)
theorem dX9_lettersOn_5 : decode cX9_lettersOn 5 = .ok (.aload_n 0, 1) := dk_42 (dk_at dksX9_lettersOn_0 5 rfl rfl)
theorem dX9_lettersOn_6 : decode cX9_lettersOn 6 = .ok (.getfield 7, 3) := dk_180 0 7 (dk_at dksX9_lettersOn_0 6 rfl rfl)
theorem dX9_lettersOn_9 : decode cX9_lettersOn 9 = .ok (.bipush 6, 2) := dk_16 6 (dk_at dksX9_lettersOn_0 9 rfl rfl)
theorem dX9_lettersOn_11 : decode cX9_lettersOn 11 = .ok (.iaload, 1) := dk_46 (dk_at dksX9_lettersOn_0 11 rfl rfl)
theorem dX9_lettersOn_12 : decode cX9_lettersOn 12 = .ok (.if_icmp .ge 26, 3) := dk_162 0 26 (dk_at dksX9_lettersOn_0 12 rfl rfl)
theorem dX9_lettersOn_15 : decode cX9_lettersOn 15 = .ok (.iload_n 2, 1) := dk_28 (dk_at dksX9_lettersOn_0 15 rfl rfl)
theorem dX9_lettersOn_16 : decode cX9_lettersOn 16 = .ok (.aload_n 0, 1) := dk_42 (dk_at dksX9_lettersOn_0 16 rfl rfl)
theorem dX9_lettersOn_17 : decode cX9_lettersOn 17 = .ok (.iload_n 3, 1) := dk_29 (dk_at dksX9_lettersOn_0 17 rfl rfl)
theorem dX9_lettersOn_18 : decode cX9_lettersOn 18 = .ok (.iload_n 1, 1) := dk_27 (dk_at dksX9_lettersOn_0 18 rfl rfl)
theorem dX9_lettersOn_19 : decode cX9_lettersOn 19 = .ok (.invokevirtual 350, 3) := dk_182 1 94 (dk_at dksX9_lettersOn_0 19 rfl rfl)
theorem dX9_lettersOn_22 : decode cX9_lettersOn 22 = .ok (.ifCond .eq 7, 3) := dk_153 0 7 (dk_at dksX9_lettersOn_1 0 rfl rfl)
theorem dX9_lettersOn_25 : decode cX9_lettersOn 25 = .ok (.iconst 1, 1) := dk_4 (dk_at dksX9_lettersOn_1 3 rfl rfl)
theorem dX9_lettersOn_26 : decode cX9_lettersOn 26 = .ok (.goto 4, 3) := dk_167 0 4 (dk_at dksX9_lettersOn_1 4 rfl rfl)
theorem dX9_lettersOn_29 : decode cX9_lettersOn 29 = .ok (.iconst 0, 1) := dk_3 (dk_at dksX9_lettersOn_1 7 rfl rfl)
theorem dX9_lettersOn_30 : decode cX9_lettersOn 30 = .ok (.iadd, 1) := dk_96 (dk_at dksX9_lettersOn_1 8 rfl rfl)
theorem dX9_lettersOn_31 : decode cX9_lettersOn 31 = .ok (.istore_n 2, 1) := dk_61 (dk_at dksX9_lettersOn_1 9 rfl rfl)
theorem dX9_lettersOn_32 : decode cX9_lettersOn 32 = .ok (.iinc 3 1, 3) := dk_132 3 1 (dk_at dksX9_lettersOn_1 10 rfl rfl)
theorem dX9_lettersOn_35 : decode cX9_lettersOn 35 = .ok (.goto (-31), 3) := dk_167 255 225 (dk_at dksX9_lettersOn_1 13 rfl rfl)
theorem dX9_lettersOn_38 : decode cX9_lettersOn 38 = .ok (.iload_n 2, 1) := dk_28 (dk_at dksX9_lettersOn_1 16 rfl rfl)
theorem dX9_lettersOn_39 : decode cX9_lettersOn 39 = .ok (.ireturn, 1) := dk_172 (dk_at dksX9_lettersOn_1 17 rfl rfl)
abbrev cX9_lettersFor : ByteArray := prog_16_method_86_code
def yX9_lettersFor : MethodName := ⟨RX9, "lettersFor", "(I)I"⟩
def dkwX9_lettersFor_2 : List UInt8 := [167, 255, 214, 28, 172]
abbrev dktX9_lettersFor_2 : List UInt8 := dkwX9_lettersFor_2 ++ []
def dkwX9_lettersFor_1 : List UInt8 := [160, 0, 17, 42, 29, 5, 182, 0, 160, 4, 163, 0, 7, 4, 167, 0, 4, 3, 96, 61, 132, 3, 1]
abbrev dktX9_lettersFor_1 : List UInt8 := dkwX9_lettersFor_1 ++ dktX9_lettersFor_2
def dkwX9_lettersFor_0 : List UInt8 := [3, 61, 3, 62, 29, 42, 180, 0, 7, 16, 6, 46, 162, 0, 37, 28, 42, 29, 4, 182, 0, 160, 27]
abbrev dktX9_lettersFor_0 : List UInt8 := dkwX9_lettersFor_0 ++ dktX9_lettersFor_1
theorem dksX9_lettersFor_0 : cX9_lettersFor.data.toList.drop 0 = dktX9_lettersFor_0 := by decide +kernel
theorem dksX9_lettersFor_1 : cX9_lettersFor.data.toList.drop 23 = dktX9_lettersFor_1 := dk_seg dksX9_lettersFor_0 23 rfl rfl
theorem dksX9_lettersFor_2 : cX9_lettersFor.data.toList.drop 46 = dktX9_lettersFor_2 := dk_seg dksX9_lettersFor_1 23 rfl rfl
theorem dX9_lettersFor_0 : decode cX9_lettersFor 0 = .ok (.iconst 0, 1) := dk_3 (dk_at dksX9_lettersFor_0 0 rfl rfl)
theorem dX9_lettersFor_1 : decode cX9_lettersFor 1 = .ok (.istore_n 2, 1) := dk_61 (dk_at dksX9_lettersFor_0 1 rfl rfl)
theorem dX9_lettersFor_2 : decode cX9_lettersFor 2 = .ok (.iconst 0, 1) := dk_3 (dk_at dksX9_lettersFor_0 2 rfl rfl)
theorem dX9_lettersFor_3 : decode cX9_lettersFor 3 = .ok (.istore_n 3, 1) := dk_62 (dk_at dksX9_lettersFor_0 3 rfl rfl)
theorem dX9_lettersFor_4 : decode cX9_lettersFor 4 = .ok (.iload_n 3, 1) := dk_29 (dk_at dksX9_lettersFor_0 4 rfl rfl)
theorem dX9_lettersFor_5 : decode cX9_lettersFor 5 = .ok (.aload_n 0, 1) := dk_42 (dk_at dksX9_lettersFor_0 5 rfl rfl)
theorem dX9_lettersFor_6 : decode cX9_lettersFor 6 = .ok (.getfield 7, 3) := dk_180 0 7 (dk_at dksX9_lettersFor_0 6 rfl rfl)
theorem dX9_lettersFor_9 : decode cX9_lettersFor 9 = .ok (.bipush 6, 2) := dk_16 6 (dk_at dksX9_lettersFor_0 9 rfl rfl)
theorem dX9_lettersFor_11 : decode cX9_lettersFor 11 = .ok (.iaload, 1) := dk_46 (dk_at dksX9_lettersFor_0 11 rfl rfl)
theorem dX9_lettersFor_12 : decode cX9_lettersFor 12 = .ok (.if_icmp .ge 37, 3) := dk_162 0 37 (dk_at dksX9_lettersFor_0 12 rfl rfl)
theorem dX9_lettersFor_15 : decode cX9_lettersFor 15 = .ok (.iload_n 2, 1) := dk_28 (dk_at dksX9_lettersFor_0 15 rfl rfl)
theorem dX9_lettersFor_16 : decode cX9_lettersFor 16 = .ok (.aload_n 0, 1) := dk_42 (dk_at dksX9_lettersFor_0 16 rfl rfl)
theorem dX9_lettersFor_17 : decode cX9_lettersFor 17 = .ok (.iload_n 3, 1) := dk_29 (dk_at dksX9_lettersFor_0 17 rfl rfl)
theorem dX9_lettersFor_18 : decode cX9_lettersFor 18 = .ok (.iconst 1, 1) := dk_4 (dk_at dksX9_lettersFor_0 18 rfl rfl)
theorem dX9_lettersFor_19 : decode cX9_lettersFor 19 = .ok (.invokevirtual 160, 3) := dk_182 0 160 (dk_at dksX9_lettersFor_0 19 rfl rfl)
theorem dX9_lettersFor_22 : decode cX9_lettersFor 22 = .ok (.iload_n 1, 1) := dk_27 (dk_at dksX9_lettersFor_0 22 rfl rfl)
theorem dX9_lettersFor_23 : decode cX9_lettersFor 23 = .ok (.if_icmp .ne 17, 3) := dk_160 0 17 (dk_at dksX9_lettersFor_1 0 rfl rfl)
theorem dX9_lettersFor_26 : decode cX9_lettersFor 26 = .ok (.aload_n 0, 1) := dk_42 (dk_at dksX9_lettersFor_1 3 rfl rfl)
theorem dX9_lettersFor_27 : decode cX9_lettersFor 27 = .ok (.iload_n 3, 1) := dk_29 (dk_at dksX9_lettersFor_1 4 rfl rfl)
theorem dX9_lettersFor_28 : decode cX9_lettersFor 28 = .ok (.iconst 2, 1) := dk_5 (dk_at dksX9_lettersFor_1 5 rfl rfl)
theorem dX9_lettersFor_29 : decode cX9_lettersFor 29 = .ok (.invokevirtual 160, 3) := dk_182 0 160 (dk_at dksX9_lettersFor_1 6 rfl rfl)
theorem dX9_lettersFor_32 : decode cX9_lettersFor 32 = .ok (.iconst 1, 1) := dk_4 (dk_at dksX9_lettersFor_1 9 rfl rfl)
theorem dX9_lettersFor_33 : decode cX9_lettersFor 33 = .ok (.if_icmp .gt 7, 3) := dk_163 0 7 (dk_at dksX9_lettersFor_1 10 rfl rfl)
theorem dX9_lettersFor_36 : decode cX9_lettersFor 36 = .ok (.iconst 1, 1) := dk_4 (dk_at dksX9_lettersFor_1 13 rfl rfl)
theorem dX9_lettersFor_37 : decode cX9_lettersFor 37 = .ok (.goto 4, 3) := dk_167 0 4 (dk_at dksX9_lettersFor_1 14 rfl rfl)
theorem dX9_lettersFor_40 : decode cX9_lettersFor 40 = .ok (.iconst 0, 1) := dk_3 (dk_at dksX9_lettersFor_1 17 rfl rfl)
theorem dX9_lettersFor_41 : decode cX9_lettersFor 41 = .ok (.iadd, 1) := dk_96 (dk_at dksX9_lettersFor_1 18 rfl rfl)
theorem dX9_lettersFor_42 : decode cX9_lettersFor 42 = .ok (.istore_n 2, 1) := dk_61 (dk_at dksX9_lettersFor_1 19 rfl rfl)
theorem dX9_lettersFor_43 : decode cX9_lettersFor 43 = .ok (.iinc 3 1, 3) := dk_132 3 1 (dk_at dksX9_lettersFor_1 20 rfl rfl)
theorem dX9_lettersFor_46 : decode cX9_lettersFor 46 = .ok (.goto (-42), 3) := dk_167 255 214 (dk_at dksX9_lettersFor_2 0 rfl rfl)
theorem dX9_lettersFor_49 : decode cX9_lettersFor 49 = .ok (.iload_n 2, 1) := dk_28 (dk_at dksX9_lettersFor_2 3 rfl rfl)
theorem dX9_lettersFor_50 : decode cX9_lettersFor 50 = .ok (.ireturn, 1) := dk_172 (dk_at dksX9_lettersFor_2 4 rfl rfl)
abbrev cX9_bank : ByteArray := prog_16_method_88_code
def yX9_bank : MethodName := ⟨RX9, "bank", "(II)I"⟩
def dkwX9_bank_2 : List UInt8 := [182, 0, 181, 172]
abbrev dktX9_bank_2 : List UInt8 := dkwX9_bank_2 ++ []
def dkwX9_bank_1 : List UInt8 := [182, 0, 181, 172, 28, 3, 6, 184, 0, 88, 153, 0, 12, 42, 27, 28, 182, 0, 104, 167, 0, 8, 42, 5]
abbrev dktX9_bank_1 : List UInt8 := dkwX9_bank_1 ++ dktX9_bank_2
def dkwX9_bank_0 : List UInt8 := [42, 3, 181, 0, 77, 27, 3, 42, 180, 0, 7, 6, 46, 4, 100, 184, 0, 88, 154, 0, 9, 42, 4]
abbrev dktX9_bank_0 : List UInt8 := dkwX9_bank_0 ++ dktX9_bank_1
theorem dksX9_bank_0 : cX9_bank.data.toList.drop 0 = dktX9_bank_0 := by decide +kernel
theorem dksX9_bank_1 : cX9_bank.data.toList.drop 23 = dktX9_bank_1 := dk_seg dksX9_bank_0 23 rfl rfl
theorem dksX9_bank_2 : cX9_bank.data.toList.drop 47 = dktX9_bank_2 := dk_seg dksX9_bank_1 24 rfl rfl
theorem dX9_bank_0 : decode cX9_bank 0 = .ok (.aload_n 0, 1) := dk_42 (dk_at dksX9_bank_0 0 rfl rfl)
theorem dX9_bank_1 : decode cX9_bank 1 = .ok (.iconst 0, 1) := dk_3 (dk_at dksX9_bank_0 1 rfl rfl)
theorem dX9_bank_2 : decode cX9_bank 2 = .ok (.putfield 77, 3) := dk_181 0 77 (dk_at dksX9_bank_0 2 rfl rfl)
theorem dX9_bank_5 : decode cX9_bank 5 = .ok (.iload_n 1, 1) := dk_27 (dk_at dksX9_bank_0 5 rfl rfl)
theorem dX9_bank_6 : decode cX9_bank 6 = .ok (.iconst 0, 1) := dk_3 (dk_at dksX9_bank_0 6 rfl rfl)
theorem dX9_bank_7 : decode cX9_bank 7 = .ok (.aload_n 0, 1) := dk_42 (dk_at dksX9_bank_0 7 rfl rfl)
theorem dX9_bank_8 : decode cX9_bank 8 = .ok (.getfield 7, 3) := dk_180 0 7 (dk_at dksX9_bank_0 8 rfl rfl)
theorem dX9_bank_11 : decode cX9_bank 11 = .ok (.iconst 3, 1) := dk_6 (dk_at dksX9_bank_0 11 rfl rfl)
theorem dX9_bank_12 : decode cX9_bank 12 = .ok (.iaload, 1) := dk_46 (dk_at dksX9_bank_0 12 rfl rfl)
theorem dX9_bank_13 : decode cX9_bank 13 = .ok (.iconst 1, 1) := dk_4 (dk_at dksX9_bank_0 13 rfl rfl)
theorem dX9_bank_14 : decode cX9_bank 14 = .ok (.isub, 1) := dk_100 (dk_at dksX9_bank_0 14 rfl rfl)
theorem dX9_bank_15 : decode cX9_bank 15 = .ok (.invokestatic 88, 3) := dk_184 0 88 (dk_at dksX9_bank_0 15 rfl rfl)
theorem dX9_bank_18 : decode cX9_bank 18 = .ok (.ifCond .ne 9, 3) := dk_154 0 9 (dk_at dksX9_bank_0 18 rfl rfl)
theorem dX9_bank_21 : decode cX9_bank 21 = .ok (.aload_n 0, 1) := dk_42 (dk_at dksX9_bank_0 21 rfl rfl)
theorem dX9_bank_22 : decode cX9_bank 22 = .ok (.iconst 1, 1) := dk_4 (dk_at dksX9_bank_0 22 rfl rfl)
theorem dX9_bank_23 : decode cX9_bank 23 = .ok (.invokevirtual 181, 3) := dk_182 0 181 (dk_at dksX9_bank_1 0 rfl rfl)
theorem dX9_bank_26 : decode cX9_bank 26 = .ok (.ireturn, 1) := dk_172 (dk_at dksX9_bank_1 3 rfl rfl)
theorem dX9_bank_27 : decode cX9_bank 27 = .ok (.iload_n 2, 1) := dk_28 (dk_at dksX9_bank_1 4 rfl rfl)
theorem dX9_bank_28 : decode cX9_bank 28 = .ok (.iconst 0, 1) := dk_3 (dk_at dksX9_bank_1 5 rfl rfl)
theorem dX9_bank_29 : decode cX9_bank 29 = .ok (.iconst 3, 1) := dk_6 (dk_at dksX9_bank_1 6 rfl rfl)
theorem dX9_bank_30 : decode cX9_bank 30 = .ok (.invokestatic 88, 3) := dk_184 0 88 (dk_at dksX9_bank_1 7 rfl rfl)
theorem dX9_bank_33 : decode cX9_bank 33 = .ok (.ifCond .eq 12, 3) := dk_153 0 12 (dk_at dksX9_bank_1 10 rfl rfl)
theorem dX9_bank_36 : decode cX9_bank 36 = .ok (.aload_n 0, 1) := dk_42 (dk_at dksX9_bank_1 13 rfl rfl)
theorem dX9_bank_37 : decode cX9_bank 37 = .ok (.iload_n 1, 1) := dk_27 (dk_at dksX9_bank_1 14 rfl rfl)
theorem dX9_bank_38 : decode cX9_bank 38 = .ok (.iload_n 2, 1) := dk_28 (dk_at dksX9_bank_1 15 rfl rfl)
theorem dX9_bank_39 : decode cX9_bank 39 = .ok (.invokevirtual 104, 3) := dk_182 0 104 (dk_at dksX9_bank_1 16 rfl rfl)
theorem dX9_bank_42 : decode cX9_bank 42 = .ok (.goto 8, 3) := dk_167 0 8 (dk_at dksX9_bank_1 19 rfl rfl)
theorem dX9_bank_45 : decode cX9_bank 45 = .ok (.aload_n 0, 1) := dk_42 (dk_at dksX9_bank_1 22 rfl rfl)
theorem dX9_bank_46 : decode cX9_bank 46 = .ok (.iconst 2, 1) := dk_5 (dk_at dksX9_bank_1 23 rfl rfl)
theorem dX9_bank_47 : decode cX9_bank 47 = .ok (.invokevirtual 181, 3) := dk_182 0 181 (dk_at dksX9_bank_2 0 rfl rfl)
theorem dX9_bank_50 : decode cX9_bank 50 = .ok (.ireturn, 1) := dk_172 (dk_at dksX9_bank_2 3 rfl rfl)
abbrev cX9_watcher : ByteArray := prog_16_method_91_code
def yX9_watcher : MethodName := ⟨RX9, "watcher", "(II)I"⟩
def dkwX9_watcher_3 : List UInt8 := [182, 1, 115, 4, 100, 182, 0, 129, 172, 42, 5, 182, 0, 181, 172]
abbrev dktX9_watcher_3 : List UInt8 := dkwX9_watcher_3 ++ []
def dkwX9_watcher_2 : List UInt8 := [42, 27, 28, 182, 0, 119, 172, 42, 27, 182, 1, 115, 172, 42, 27, 182, 1, 118, 172, 42, 27, 42, 27]
abbrev dktX9_watcher_2 : List UInt8 := dkwX9_watcher_2 ++ dktX9_watcher_3
def dkwX9_watcher_1 : List UInt8 := [170, 0, 0, 0, 0, 0, 0, 76, 0, 0, 0, 0, 0, 0, 0, 6, 0, 0, 0, 44, 0, 0, 0, 44, 0, 0, 0, 44, 0, 0, 0, 44, 0, 0, 0, 51, 0, 0, 0, 57, 0, 0, 0, 63]
abbrev dktX9_watcher_1 : List UInt8 := dkwX9_watcher_1 ++ dktX9_watcher_2
def dkwX9_watcher_0 : List UInt8 := [42, 3, 181, 0, 77, 42, 27, 182, 1, 112, 154, 0, 9, 42, 4, 182, 0, 181, 172, 28]
abbrev dktX9_watcher_0 : List UInt8 := dkwX9_watcher_0 ++ dktX9_watcher_1
theorem dksX9_watcher_0 : cX9_watcher.data.toList.drop 0 = dktX9_watcher_0 := by decide +kernel
theorem dksX9_watcher_1 : cX9_watcher.data.toList.drop 20 = dktX9_watcher_1 := dk_seg dksX9_watcher_0 20 rfl rfl
theorem dksX9_watcher_2 : cX9_watcher.data.toList.drop 64 = dktX9_watcher_2 := dk_seg dksX9_watcher_1 44 rfl rfl
theorem dksX9_watcher_3 : cX9_watcher.data.toList.drop 87 = dktX9_watcher_3 := dk_seg dksX9_watcher_2 23 rfl rfl
theorem dX9_watcher_0 : decode cX9_watcher 0 = .ok (.aload_n 0, 1) := dk_42 (dk_at dksX9_watcher_0 0 rfl rfl)
theorem dX9_watcher_1 : decode cX9_watcher 1 = .ok (.iconst 0, 1) := dk_3 (dk_at dksX9_watcher_0 1 rfl rfl)
theorem dX9_watcher_2 : decode cX9_watcher 2 = .ok (.putfield 77, 3) := dk_181 0 77 (dk_at dksX9_watcher_0 2 rfl rfl)
theorem dX9_watcher_5 : decode cX9_watcher 5 = .ok (.aload_n 0, 1) := dk_42 (dk_at dksX9_watcher_0 5 rfl rfl)
theorem dX9_watcher_6 : decode cX9_watcher 6 = .ok (.iload_n 1, 1) := dk_27 (dk_at dksX9_watcher_0 6 rfl rfl)
theorem dX9_watcher_7 : decode cX9_watcher 7 = .ok (.invokevirtual 368, 3) := dk_182 1 112 (dk_at dksX9_watcher_0 7 rfl rfl)
theorem dX9_watcher_10 : decode cX9_watcher 10 = .ok (.ifCond .ne 9, 3) := dk_154 0 9 (dk_at dksX9_watcher_0 10 rfl rfl)
theorem dX9_watcher_13 : decode cX9_watcher 13 = .ok (.aload_n 0, 1) := dk_42 (dk_at dksX9_watcher_0 13 rfl rfl)
theorem dX9_watcher_14 : decode cX9_watcher 14 = .ok (.iconst 1, 1) := dk_4 (dk_at dksX9_watcher_0 14 rfl rfl)
theorem dX9_watcher_15 : decode cX9_watcher 15 = .ok (.invokevirtual 181, 3) := dk_182 0 181 (dk_at dksX9_watcher_0 15 rfl rfl)
theorem dX9_watcher_18 : decode cX9_watcher 18 = .ok (.ireturn, 1) := dk_172 (dk_at dksX9_watcher_0 18 rfl rfl)
theorem dX9_watcher_19 : decode cX9_watcher 19 = .ok (.iload_n 2, 1) := dk_28 (dk_at dksX9_watcher_0 19 rfl rfl)
theorem dX9_watcher_20 : decode cX9_watcher 20 = .ok (.tableswitch 76 0 6 #[44, 44, 44, 44, 51, 57, 63], 44) := by decide +kernel
theorem dX9_watcher_64 : decode cX9_watcher 64 = .ok (.aload_n 0, 1) := dk_42 (dk_at dksX9_watcher_2 0 rfl rfl)
theorem dX9_watcher_65 : decode cX9_watcher 65 = .ok (.iload_n 1, 1) := dk_27 (dk_at dksX9_watcher_2 1 rfl rfl)
theorem dX9_watcher_66 : decode cX9_watcher 66 = .ok (.iload_n 2, 1) := dk_28 (dk_at dksX9_watcher_2 2 rfl rfl)
theorem dX9_watcher_67 : decode cX9_watcher 67 = .ok (.invokevirtual 119, 3) := dk_182 0 119 (dk_at dksX9_watcher_2 3 rfl rfl)
theorem dX9_watcher_70 : decode cX9_watcher 70 = .ok (.ireturn, 1) := dk_172 (dk_at dksX9_watcher_2 6 rfl rfl)
theorem dX9_watcher_71 : decode cX9_watcher 71 = .ok (.aload_n 0, 1) := dk_42 (dk_at dksX9_watcher_2 7 rfl rfl)
theorem dX9_watcher_72 : decode cX9_watcher 72 = .ok (.iload_n 1, 1) := dk_27 (dk_at dksX9_watcher_2 8 rfl rfl)
theorem dX9_watcher_73 : decode cX9_watcher 73 = .ok (.invokevirtual 371, 3) := dk_182 1 115 (dk_at dksX9_watcher_2 9 rfl rfl)
theorem dX9_watcher_76 : decode cX9_watcher 76 = .ok (.ireturn, 1) := dk_172 (dk_at dksX9_watcher_2 12 rfl rfl)
theorem dX9_watcher_77 : decode cX9_watcher 77 = .ok (.aload_n 0, 1) := dk_42 (dk_at dksX9_watcher_2 13 rfl rfl)
theorem dX9_watcher_78 : decode cX9_watcher 78 = .ok (.iload_n 1, 1) := dk_27 (dk_at dksX9_watcher_2 14 rfl rfl)
theorem dX9_watcher_79 : decode cX9_watcher 79 = .ok (.invokevirtual 374, 3) := dk_182 1 118 (dk_at dksX9_watcher_2 15 rfl rfl)
theorem dX9_watcher_82 : decode cX9_watcher 82 = .ok (.ireturn, 1) := dk_172 (dk_at dksX9_watcher_2 18 rfl rfl)
theorem dX9_watcher_83 : decode cX9_watcher 83 = .ok (.aload_n 0, 1) := dk_42 (dk_at dksX9_watcher_2 19 rfl rfl)
theorem dX9_watcher_84 : decode cX9_watcher 84 = .ok (.iload_n 1, 1) := dk_27 (dk_at dksX9_watcher_2 20 rfl rfl)
theorem dX9_watcher_85 : decode cX9_watcher 85 = .ok (.aload_n 0, 1) := dk_42 (dk_at dksX9_watcher_2 21 rfl rfl)
theorem dX9_watcher_86 : decode cX9_watcher 86 = .ok (.iload_n 1, 1) := dk_27 (dk_at dksX9_watcher_2 22 rfl rfl)
theorem dX9_watcher_87 : decode cX9_watcher 87 = .ok (.invokevirtual 371, 3) := dk_182 1 115 (dk_at dksX9_watcher_3 0 rfl rfl)
theorem dX9_watcher_90 : decode cX9_watcher 90 = .ok (.iconst 1, 1) := dk_4 (dk_at dksX9_watcher_3 3 rfl rfl)
theorem dX9_watcher_91 : decode cX9_watcher 91 = .ok (.isub, 1) := dk_100 (dk_at dksX9_watcher_3 4 rfl rfl)
theorem dX9_watcher_92 : decode cX9_watcher 92 = .ok (.invokevirtual 129, 3) := dk_182 0 129 (dk_at dksX9_watcher_3 5 rfl rfl)
theorem dX9_watcher_95 : decode cX9_watcher 95 = .ok (.ireturn, 1) := dk_172 (dk_at dksX9_watcher_3 8 rfl rfl)
theorem dX9_watcher_96 : decode cX9_watcher 96 = .ok (.aload_n 0, 1) := dk_42 (dk_at dksX9_watcher_3 9 rfl rfl)
theorem dX9_watcher_97 : decode cX9_watcher 97 = .ok (.iconst 2, 1) := dk_5 (dk_at dksX9_watcher_3 10 rfl rfl)
theorem dX9_watcher_98 : decode cX9_watcher 98 = .ok (.invokevirtual 181, 3) := dk_182 0 181 (dk_at dksX9_watcher_3 11 rfl rfl)
theorem dX9_watcher_101 : decode cX9_watcher 101 = .ok (.ireturn, 1) := dk_172 (dk_at dksX9_watcher_3 14 rfl rfl)
abbrev cX9_isWatcher : ByteArray := prog_16_method_22_code
def yX9_isWatcher : MethodName := ⟨RX9, "isWatcher", "(I)Z"⟩
def dkwX9_isWatcher_0 : List UInt8 := [27, 3, 42, 180, 0, 7, 7, 46, 4, 100, 184, 0, 88, 172]
abbrev dktX9_isWatcher_0 : List UInt8 := dkwX9_isWatcher_0 ++ []
theorem dksX9_isWatcher_0 : cX9_isWatcher.data.toList.drop 0 = dktX9_isWatcher_0 := by decide +kernel
theorem dX9_isWatcher_0 : decode cX9_isWatcher 0 = .ok (.iload_n 1, 1) := dk_27 (dk_at dksX9_isWatcher_0 0 rfl rfl)
theorem dX9_isWatcher_1 : decode cX9_isWatcher 1 = .ok (.iconst 0, 1) := dk_3 (dk_at dksX9_isWatcher_0 1 rfl rfl)
theorem dX9_isWatcher_2 : decode cX9_isWatcher 2 = .ok (.aload_n 0, 1) := dk_42 (dk_at dksX9_isWatcher_0 2 rfl rfl)
theorem dX9_isWatcher_3 : decode cX9_isWatcher 3 = .ok (.getfield 7, 3) := dk_180 0 7 (dk_at dksX9_isWatcher_0 3 rfl rfl)
theorem dX9_isWatcher_6 : decode cX9_isWatcher 6 = .ok (.iconst 4, 1) := dk_7 (dk_at dksX9_isWatcher_0 6 rfl rfl)
theorem dX9_isWatcher_7 : decode cX9_isWatcher 7 = .ok (.iaload, 1) := dk_46 (dk_at dksX9_isWatcher_0 7 rfl rfl)
theorem dX9_isWatcher_8 : decode cX9_isWatcher 8 = .ok (.iconst 1, 1) := dk_4 (dk_at dksX9_isWatcher_0 8 rfl rfl)
theorem dX9_isWatcher_9 : decode cX9_isWatcher 9 = .ok (.isub, 1) := dk_100 (dk_at dksX9_isWatcher_0 9 rfl rfl)
theorem dX9_isWatcher_10 : decode cX9_isWatcher 10 = .ok (.invokestatic 88, 3) := dk_184 0 88 (dk_at dksX9_isWatcher_0 10 rfl rfl)
theorem dX9_isWatcher_13 : decode cX9_isWatcher 13 = .ok (.ireturn, 1) := dk_172 (dk_at dksX9_isWatcher_0 13 rfl rfl)
abbrev cX9_seenBy : ByteArray := prog_16_method_89_code
def yX9_seenBy : MethodName := ⟨RX9, "seenBy", "(I)I"⟩
def dkwX9_seenBy_1 : List UInt8 := [167, 0, 4, 3, 96, 61, 132, 3, 1, 167, 255, 228, 28, 172]
abbrev dktX9_seenBy_1 : List UInt8 := dkwX9_seenBy_1 ++ []
def dkwX9_seenBy_0 : List UInt8 := [3, 61, 3, 62, 29, 42, 182, 0, 84, 162, 0, 26, 28, 42, 27, 29, 182, 0, 141, 153, 0, 7, 4]
abbrev dktX9_seenBy_0 : List UInt8 := dkwX9_seenBy_0 ++ dktX9_seenBy_1
theorem dksX9_seenBy_0 : cX9_seenBy.data.toList.drop 0 = dktX9_seenBy_0 := by decide +kernel
theorem dksX9_seenBy_1 : cX9_seenBy.data.toList.drop 23 = dktX9_seenBy_1 := dk_seg dksX9_seenBy_0 23 rfl rfl
theorem dX9_seenBy_0 : decode cX9_seenBy 0 = .ok (.iconst 0, 1) := dk_3 (dk_at dksX9_seenBy_0 0 rfl rfl)
theorem dX9_seenBy_1 : decode cX9_seenBy 1 = .ok (.istore_n 2, 1) := dk_61 (dk_at dksX9_seenBy_0 1 rfl rfl)
theorem dX9_seenBy_2 : decode cX9_seenBy 2 = .ok (.iconst 0, 1) := dk_3 (dk_at dksX9_seenBy_0 2 rfl rfl)
theorem dX9_seenBy_3 : decode cX9_seenBy 3 = .ok (.istore_n 3, 1) := dk_62 (dk_at dksX9_seenBy_0 3 rfl rfl)
theorem dX9_seenBy_4 : decode cX9_seenBy 4 = .ok (.iload_n 3, 1) := dk_29 (dk_at dksX9_seenBy_0 4 rfl rfl)
theorem dX9_seenBy_5 : decode cX9_seenBy 5 = .ok (.aload_n 0, 1) := dk_42 (dk_at dksX9_seenBy_0 5 rfl rfl)
theorem dX9_seenBy_6 : decode cX9_seenBy 6 = .ok (.invokevirtual 84, 3) := dk_182 0 84 (dk_at dksX9_seenBy_0 6 rfl rfl)
theorem dX9_seenBy_9 : decode cX9_seenBy 9 = .ok (.if_icmp .ge 26, 3) := dk_162 0 26 (dk_at dksX9_seenBy_0 9 rfl rfl)
theorem dX9_seenBy_12 : decode cX9_seenBy 12 = .ok (.iload_n 2, 1) := dk_28 (dk_at dksX9_seenBy_0 12 rfl rfl)
theorem dX9_seenBy_13 : decode cX9_seenBy 13 = .ok (.aload_n 0, 1) := dk_42 (dk_at dksX9_seenBy_0 13 rfl rfl)
theorem dX9_seenBy_14 : decode cX9_seenBy 14 = .ok (.iload_n 1, 1) := dk_27 (dk_at dksX9_seenBy_0 14 rfl rfl)
theorem dX9_seenBy_15 : decode cX9_seenBy 15 = .ok (.iload_n 3, 1) := dk_29 (dk_at dksX9_seenBy_0 15 rfl rfl)
theorem dX9_seenBy_16 : decode cX9_seenBy 16 = .ok (.invokevirtual 141, 3) := dk_182 0 141 (dk_at dksX9_seenBy_0 16 rfl rfl)
theorem dX9_seenBy_19 : decode cX9_seenBy 19 = .ok (.ifCond .eq 7, 3) := dk_153 0 7 (dk_at dksX9_seenBy_0 19 rfl rfl)
theorem dX9_seenBy_22 : decode cX9_seenBy 22 = .ok (.iconst 1, 1) := dk_4 (dk_at dksX9_seenBy_0 22 rfl rfl)
theorem dX9_seenBy_23 : decode cX9_seenBy 23 = .ok (.goto 4, 3) := dk_167 0 4 (dk_at dksX9_seenBy_1 0 rfl rfl)
theorem dX9_seenBy_26 : decode cX9_seenBy 26 = .ok (.iconst 0, 1) := dk_3 (dk_at dksX9_seenBy_1 3 rfl rfl)
theorem dX9_seenBy_27 : decode cX9_seenBy 27 = .ok (.iadd, 1) := dk_96 (dk_at dksX9_seenBy_1 4 rfl rfl)
theorem dX9_seenBy_28 : decode cX9_seenBy 28 = .ok (.istore_n 2, 1) := dk_61 (dk_at dksX9_seenBy_1 5 rfl rfl)
theorem dX9_seenBy_29 : decode cX9_seenBy 29 = .ok (.iinc 3 1, 3) := dk_132 3 1 (dk_at dksX9_seenBy_1 6 rfl rfl)
theorem dX9_seenBy_32 : decode cX9_seenBy 32 = .ok (.goto (-28), 3) := dk_167 255 228 (dk_at dksX9_seenBy_1 9 rfl rfl)
theorem dX9_seenBy_35 : decode cX9_seenBy 35 = .ok (.iload_n 2, 1) := dk_28 (dk_at dksX9_seenBy_1 12 rfl rfl)
theorem dX9_seenBy_36 : decode cX9_seenBy 36 = .ok (.ireturn, 1) := dk_172 (dk_at dksX9_seenBy_1 13 rfl rfl)
abbrev cX9_couriersSeenBy : ByteArray := prog_16_method_90_code
def yX9_couriersSeenBy : MethodName := ⟨RX9, "couriersSeenBy", "(I)I"⟩
def dkwX9_couriersSeenBy_1 : List UInt8 := [182, 0, 141, 153, 0, 7, 4, 167, 0, 4, 3, 96, 61, 132, 3, 1, 167, 255, 221, 28, 172]
abbrev dktX9_couriersSeenBy_1 : List UInt8 := dkwX9_couriersSeenBy_1 ++ []
def dkwX9_couriersSeenBy_0 : List UInt8 := [3, 61, 3, 62, 29, 42, 180, 0, 7, 8, 46, 162, 0, 31, 28, 42, 27, 42, 29, 3, 182, 0, 80]
abbrev dktX9_couriersSeenBy_0 : List UInt8 := dkwX9_couriersSeenBy_0 ++ dktX9_couriersSeenBy_1
theorem dksX9_couriersSeenBy_0 : cX9_couriersSeenBy.data.toList.drop 0 = dktX9_couriersSeenBy_0 := by decide +kernel
theorem dksX9_couriersSeenBy_1 : cX9_couriersSeenBy.data.toList.drop 23 = dktX9_couriersSeenBy_1 := dk_seg dksX9_couriersSeenBy_0 23 rfl rfl
theorem dX9_couriersSeenBy_0 : decode cX9_couriersSeenBy 0 = .ok (.iconst 0, 1) := dk_3 (dk_at dksX9_couriersSeenBy_0 0 rfl rfl)
theorem dX9_couriersSeenBy_1 : decode cX9_couriersSeenBy 1 = .ok (.istore_n 2, 1) := dk_61 (dk_at dksX9_couriersSeenBy_0 1 rfl rfl)
theorem dX9_couriersSeenBy_2 : decode cX9_couriersSeenBy 2 = .ok (.iconst 0, 1) := dk_3 (dk_at dksX9_couriersSeenBy_0 2 rfl rfl)
theorem dX9_couriersSeenBy_3 : decode cX9_couriersSeenBy 3 = .ok (.istore_n 3, 1) := dk_62 (dk_at dksX9_couriersSeenBy_0 3 rfl rfl)
theorem dX9_couriersSeenBy_4 : decode cX9_couriersSeenBy 4 = .ok (.iload_n 3, 1) := dk_29 (dk_at dksX9_couriersSeenBy_0 4 rfl rfl)
theorem dX9_couriersSeenBy_5 : decode cX9_couriersSeenBy 5 = .ok (.aload_n 0, 1) := dk_42 (dk_at dksX9_couriersSeenBy_0 5 rfl rfl)
theorem dX9_couriersSeenBy_6 : decode cX9_couriersSeenBy 6 = .ok (.getfield 7, 3) := dk_180 0 7 (dk_at dksX9_couriersSeenBy_0 6 rfl rfl)
theorem dX9_couriersSeenBy_9 : decode cX9_couriersSeenBy 9 = .ok (.iconst 5, 1) := dk_8 (dk_at dksX9_couriersSeenBy_0 9 rfl rfl)
theorem dX9_couriersSeenBy_10 : decode cX9_couriersSeenBy 10 = .ok (.iaload, 1) := dk_46 (dk_at dksX9_couriersSeenBy_0 10 rfl rfl)
theorem dX9_couriersSeenBy_11 : decode cX9_couriersSeenBy 11 = .ok (.if_icmp .ge 31, 3) := dk_162 0 31 (dk_at dksX9_couriersSeenBy_0 11 rfl rfl)
theorem dX9_couriersSeenBy_14 : decode cX9_couriersSeenBy 14 = .ok (.iload_n 2, 1) := dk_28 (dk_at dksX9_couriersSeenBy_0 14 rfl rfl)
theorem dX9_couriersSeenBy_15 : decode cX9_couriersSeenBy 15 = .ok (.aload_n 0, 1) := dk_42 (dk_at dksX9_couriersSeenBy_0 15 rfl rfl)
theorem dX9_couriersSeenBy_16 : decode cX9_couriersSeenBy 16 = .ok (.iload_n 1, 1) := dk_27 (dk_at dksX9_couriersSeenBy_0 16 rfl rfl)
theorem dX9_couriersSeenBy_17 : decode cX9_couriersSeenBy 17 = .ok (.aload_n 0, 1) := dk_42 (dk_at dksX9_couriersSeenBy_0 17 rfl rfl)
theorem dX9_couriersSeenBy_18 : decode cX9_couriersSeenBy 18 = .ok (.iload_n 3, 1) := dk_29 (dk_at dksX9_couriersSeenBy_0 18 rfl rfl)
theorem dX9_couriersSeenBy_19 : decode cX9_couriersSeenBy 19 = .ok (.iconst 0, 1) := dk_3 (dk_at dksX9_couriersSeenBy_0 19 rfl rfl)
theorem dX9_couriersSeenBy_20 : decode cX9_couriersSeenBy 20 = .ok (.invokevirtual 80, 3) := dk_182 0 80 (dk_at dksX9_couriersSeenBy_0 20 rfl rfl)
theorem dX9_couriersSeenBy_23 : decode cX9_couriersSeenBy 23 = .ok (.invokevirtual 141, 3) := dk_182 0 141 (dk_at dksX9_couriersSeenBy_1 0 rfl rfl)
theorem dX9_couriersSeenBy_26 : decode cX9_couriersSeenBy 26 = .ok (.ifCond .eq 7, 3) := dk_153 0 7 (dk_at dksX9_couriersSeenBy_1 3 rfl rfl)
theorem dX9_couriersSeenBy_29 : decode cX9_couriersSeenBy 29 = .ok (.iconst 1, 1) := dk_4 (dk_at dksX9_couriersSeenBy_1 6 rfl rfl)
theorem dX9_couriersSeenBy_30 : decode cX9_couriersSeenBy 30 = .ok (.goto 4, 3) := dk_167 0 4 (dk_at dksX9_couriersSeenBy_1 7 rfl rfl)
theorem dX9_couriersSeenBy_33 : decode cX9_couriersSeenBy 33 = .ok (.iconst 0, 1) := dk_3 (dk_at dksX9_couriersSeenBy_1 10 rfl rfl)
theorem dX9_couriersSeenBy_34 : decode cX9_couriersSeenBy 34 = .ok (.iadd, 1) := dk_96 (dk_at dksX9_couriersSeenBy_1 11 rfl rfl)
theorem dX9_couriersSeenBy_35 : decode cX9_couriersSeenBy 35 = .ok (.istore_n 2, 1) := dk_61 (dk_at dksX9_couriersSeenBy_1 12 rfl rfl)
theorem dX9_couriersSeenBy_36 : decode cX9_couriersSeenBy 36 = .ok (.iinc 3 1, 3) := dk_132 3 1 (dk_at dksX9_couriersSeenBy_1 13 rfl rfl)
theorem dX9_couriersSeenBy_39 : decode cX9_couriersSeenBy 39 = .ok (.goto (-35), 3) := dk_167 255 221 (dk_at dksX9_couriersSeenBy_1 16 rfl rfl)
theorem dX9_couriersSeenBy_42 : decode cX9_couriersSeenBy 42 = .ok (.iload_n 2, 1) := dk_28 (dk_at dksX9_couriersSeenBy_1 19 rfl rfl)
theorem dX9_couriersSeenBy_43 : decode cX9_couriersSeenBy 43 = .ok (.ireturn, 1) := dk_172 (dk_at dksX9_couriersSeenBy_1 20 rfl rfl)
abbrev cX9_courier : ByteArray := prog_16_method_92_code
def yX9_courier : MethodName := ⟨RX9, "courier", "(II)I"⟩
def dkwX9_courier_4 : List UInt8 := [42, 5, 182, 0, 181, 172]
abbrev dktX9_courier_4 : List UInt8 := dkwX9_courier_4 ++ []
def dkwX9_courier_3 : List UInt8 := [182, 0, 80, 182, 1, 124, 153, 0, 7, 4, 167, 0, 4, 3, 172, 42, 27, 28, 5, 100, 182, 0, 80, 172]
abbrev dktX9_courier_3 : List UInt8 := dkwX9_courier_3 ++ dktX9_courier_4
def dkwX9_courier_2 : List UInt8 := [42, 27, 28, 182, 0, 80, 172, 42, 27, 182, 1, 121, 172, 42, 27, 5, 182, 0, 80, 172, 42, 42, 27, 3]
abbrev dktX9_courier_2 : List UInt8 := dkwX9_courier_2 ++ dktX9_courier_3
def dkwX9_courier_1 : List UInt8 := [170, 0, 0, 0, 0, 0, 0, 96, 0, 0, 0, 0, 0, 0, 0, 7, 0, 0, 0, 48, 0, 0, 0, 48, 0, 0, 0, 55, 0, 0, 0, 61, 0, 0, 0, 68, 0, 0, 0, 87, 0, 0, 0, 87, 0, 0, 0, 87]
abbrev dktX9_courier_1 : List UInt8 := dkwX9_courier_1 ++ dktX9_courier_2
def dkwX9_courier_0 : List UInt8 := [42, 3, 181, 0, 77, 42, 27, 182, 1, 60, 154, 0, 9, 42, 4, 182, 0, 181, 172, 28]
abbrev dktX9_courier_0 : List UInt8 := dkwX9_courier_0 ++ dktX9_courier_1
theorem dksX9_courier_0 : cX9_courier.data.toList.drop 0 = dktX9_courier_0 := by decide +kernel
theorem dksX9_courier_1 : cX9_courier.data.toList.drop 20 = dktX9_courier_1 := dk_seg dksX9_courier_0 20 rfl rfl
theorem dksX9_courier_2 : cX9_courier.data.toList.drop 68 = dktX9_courier_2 := dk_seg dksX9_courier_1 48 rfl rfl
theorem dksX9_courier_3 : cX9_courier.data.toList.drop 92 = dktX9_courier_3 := dk_seg dksX9_courier_2 24 rfl rfl
theorem dksX9_courier_4 : cX9_courier.data.toList.drop 116 = dktX9_courier_4 := dk_seg dksX9_courier_3 24 rfl rfl
theorem dX9_courier_0 : decode cX9_courier 0 = .ok (.aload_n 0, 1) := dk_42 (dk_at dksX9_courier_0 0 rfl rfl)
theorem dX9_courier_1 : decode cX9_courier 1 = .ok (.iconst 0, 1) := dk_3 (dk_at dksX9_courier_0 1 rfl rfl)
theorem dX9_courier_2 : decode cX9_courier 2 = .ok (.putfield 77, 3) := dk_181 0 77 (dk_at dksX9_courier_0 2 rfl rfl)
theorem dX9_courier_5 : decode cX9_courier 5 = .ok (.aload_n 0, 1) := dk_42 (dk_at dksX9_courier_0 5 rfl rfl)
theorem dX9_courier_6 : decode cX9_courier 6 = .ok (.iload_n 1, 1) := dk_27 (dk_at dksX9_courier_0 6 rfl rfl)
theorem dX9_courier_7 : decode cX9_courier 7 = .ok (.invokevirtual 316, 3) := dk_182 1 60 (dk_at dksX9_courier_0 7 rfl rfl)
theorem dX9_courier_10 : decode cX9_courier 10 = .ok (.ifCond .ne 9, 3) := dk_154 0 9 (dk_at dksX9_courier_0 10 rfl rfl)
theorem dX9_courier_13 : decode cX9_courier 13 = .ok (.aload_n 0, 1) := dk_42 (dk_at dksX9_courier_0 13 rfl rfl)
theorem dX9_courier_14 : decode cX9_courier 14 = .ok (.iconst 1, 1) := dk_4 (dk_at dksX9_courier_0 14 rfl rfl)
theorem dX9_courier_15 : decode cX9_courier 15 = .ok (.invokevirtual 181, 3) := dk_182 0 181 (dk_at dksX9_courier_0 15 rfl rfl)
theorem dX9_courier_18 : decode cX9_courier 18 = .ok (.ireturn, 1) := dk_172 (dk_at dksX9_courier_0 18 rfl rfl)
theorem dX9_courier_19 : decode cX9_courier 19 = .ok (.iload_n 2, 1) := dk_28 (dk_at dksX9_courier_0 19 rfl rfl)
theorem dX9_courier_20 : decode cX9_courier 20 = .ok (.tableswitch 96 0 7 #[48, 48, 55, 61, 68, 87, 87, 87], 48) := by decide +kernel
theorem dX9_courier_68 : decode cX9_courier 68 = .ok (.aload_n 0, 1) := dk_42 (dk_at dksX9_courier_2 0 rfl rfl)
theorem dX9_courier_69 : decode cX9_courier 69 = .ok (.iload_n 1, 1) := dk_27 (dk_at dksX9_courier_2 1 rfl rfl)
theorem dX9_courier_70 : decode cX9_courier 70 = .ok (.iload_n 2, 1) := dk_28 (dk_at dksX9_courier_2 2 rfl rfl)
theorem dX9_courier_71 : decode cX9_courier 71 = .ok (.invokevirtual 80, 3) := dk_182 0 80 (dk_at dksX9_courier_2 3 rfl rfl)
theorem dX9_courier_74 : decode cX9_courier 74 = .ok (.ireturn, 1) := dk_172 (dk_at dksX9_courier_2 6 rfl rfl)
theorem dX9_courier_75 : decode cX9_courier 75 = .ok (.aload_n 0, 1) := dk_42 (dk_at dksX9_courier_2 7 rfl rfl)
theorem dX9_courier_76 : decode cX9_courier 76 = .ok (.iload_n 1, 1) := dk_27 (dk_at dksX9_courier_2 8 rfl rfl)
theorem dX9_courier_77 : decode cX9_courier 77 = .ok (.invokevirtual 377, 3) := dk_182 1 121 (dk_at dksX9_courier_2 9 rfl rfl)
theorem dX9_courier_80 : decode cX9_courier 80 = .ok (.ireturn, 1) := dk_172 (dk_at dksX9_courier_2 12 rfl rfl)
theorem dX9_courier_81 : decode cX9_courier 81 = .ok (.aload_n 0, 1) := dk_42 (dk_at dksX9_courier_2 13 rfl rfl)
theorem dX9_courier_82 : decode cX9_courier 82 = .ok (.iload_n 1, 1) := dk_27 (dk_at dksX9_courier_2 14 rfl rfl)
theorem dX9_courier_83 : decode cX9_courier 83 = .ok (.iconst 2, 1) := dk_5 (dk_at dksX9_courier_2 15 rfl rfl)
theorem dX9_courier_84 : decode cX9_courier 84 = .ok (.invokevirtual 80, 3) := dk_182 0 80 (dk_at dksX9_courier_2 16 rfl rfl)
theorem dX9_courier_87 : decode cX9_courier 87 = .ok (.ireturn, 1) := dk_172 (dk_at dksX9_courier_2 19 rfl rfl)
theorem dX9_courier_88 : decode cX9_courier 88 = .ok (.aload_n 0, 1) := dk_42 (dk_at dksX9_courier_2 20 rfl rfl)
theorem dX9_courier_89 : decode cX9_courier 89 = .ok (.aload_n 0, 1) := dk_42 (dk_at dksX9_courier_2 21 rfl rfl)
theorem dX9_courier_90 : decode cX9_courier 90 = .ok (.iload_n 1, 1) := dk_27 (dk_at dksX9_courier_2 22 rfl rfl)
theorem dX9_courier_91 : decode cX9_courier 91 = .ok (.iconst 0, 1) := dk_3 (dk_at dksX9_courier_2 23 rfl rfl)
theorem dX9_courier_92 : decode cX9_courier 92 = .ok (.invokevirtual 80, 3) := dk_182 0 80 (dk_at dksX9_courier_3 0 rfl rfl)
theorem dX9_courier_95 : decode cX9_courier 95 = .ok (.invokevirtual 380, 3) := dk_182 1 124 (dk_at dksX9_courier_3 3 rfl rfl)
theorem dX9_courier_98 : decode cX9_courier 98 = .ok (.ifCond .eq 7, 3) := dk_153 0 7 (dk_at dksX9_courier_3 6 rfl rfl)
theorem dX9_courier_101 : decode cX9_courier 101 = .ok (.iconst 1, 1) := dk_4 (dk_at dksX9_courier_3 9 rfl rfl)
theorem dX9_courier_102 : decode cX9_courier 102 = .ok (.goto 4, 3) := dk_167 0 4 (dk_at dksX9_courier_3 10 rfl rfl)
theorem dX9_courier_105 : decode cX9_courier 105 = .ok (.iconst 0, 1) := dk_3 (dk_at dksX9_courier_3 13 rfl rfl)
theorem dX9_courier_106 : decode cX9_courier 106 = .ok (.ireturn, 1) := dk_172 (dk_at dksX9_courier_3 14 rfl rfl)
theorem dX9_courier_107 : decode cX9_courier 107 = .ok (.aload_n 0, 1) := dk_42 (dk_at dksX9_courier_3 15 rfl rfl)
theorem dX9_courier_108 : decode cX9_courier 108 = .ok (.iload_n 1, 1) := dk_27 (dk_at dksX9_courier_3 16 rfl rfl)
theorem dX9_courier_109 : decode cX9_courier 109 = .ok (.iload_n 2, 1) := dk_28 (dk_at dksX9_courier_3 17 rfl rfl)
theorem dX9_courier_110 : decode cX9_courier 110 = .ok (.iconst 2, 1) := dk_5 (dk_at dksX9_courier_3 18 rfl rfl)
theorem dX9_courier_111 : decode cX9_courier 111 = .ok (.isub, 1) := dk_100 (dk_at dksX9_courier_3 19 rfl rfl)
theorem dX9_courier_112 : decode cX9_courier 112 = .ok (.invokevirtual 80, 3) := dk_182 0 80 (dk_at dksX9_courier_3 20 rfl rfl)
theorem dX9_courier_115 : decode cX9_courier 115 = .ok (.ireturn, 1) := dk_172 (dk_at dksX9_courier_3 23 rfl rfl)
theorem dX9_courier_116 : decode cX9_courier 116 = .ok (.aload_n 0, 1) := dk_42 (dk_at dksX9_courier_4 0 rfl rfl)
theorem dX9_courier_117 : decode cX9_courier 117 = .ok (.iconst 2, 1) := dk_5 (dk_at dksX9_courier_4 1 rfl rfl)
theorem dX9_courier_118 : decode cX9_courier 118 = .ok (.invokevirtual 181, 3) := dk_182 0 181 (dk_at dksX9_courier_4 2 rfl rfl)
theorem dX9_courier_121 : decode cX9_courier 121 = .ok (.ireturn, 1) := dk_172 (dk_at dksX9_courier_4 5 rfl rfl)
abbrev cX9_letter : ByteArray := prog_16_method_94_code
def yX9_letter : MethodName := ⟨RX9, "letter", "(II)I"⟩
def dkwX9_letter_3 : List UInt8 := [182, 0, 160, 172, 42, 5, 182, 0, 181, 172]
abbrev dktX9_letter_3 : List UInt8 := dkwX9_letter_3 ++ []
def dkwX9_letter_2 : List UInt8 := [42, 27, 28, 182, 0, 160, 172, 42, 27, 182, 1, 127, 172, 42, 27, 7, 182, 0, 160, 172, 42, 27, 8]
abbrev dktX9_letter_2 : List UInt8 := dkwX9_letter_2 ++ dktX9_letter_3
def dkwX9_letter_1 : List UInt8 := [170, 0, 0, 0, 0, 0, 0, 67, 0, 0, 0, 0, 0, 0, 0, 5, 0, 0, 0, 40, 0, 0, 0, 40, 0, 0, 0, 40, 0, 0, 0, 47, 0, 0, 0, 53, 0, 0, 0, 60]
abbrev dktX9_letter_1 : List UInt8 := dkwX9_letter_1 ++ dktX9_letter_2
def dkwX9_letter_0 : List UInt8 := [42, 3, 181, 0, 77, 42, 27, 182, 1, 66, 154, 0, 9, 42, 4, 182, 0, 181, 172, 28]
abbrev dktX9_letter_0 : List UInt8 := dkwX9_letter_0 ++ dktX9_letter_1
theorem dksX9_letter_0 : cX9_letter.data.toList.drop 0 = dktX9_letter_0 := by decide +kernel
theorem dksX9_letter_1 : cX9_letter.data.toList.drop 20 = dktX9_letter_1 := dk_seg dksX9_letter_0 20 rfl rfl
theorem dksX9_letter_2 : cX9_letter.data.toList.drop 60 = dktX9_letter_2 := dk_seg dksX9_letter_1 40 rfl rfl
theorem dksX9_letter_3 : cX9_letter.data.toList.drop 83 = dktX9_letter_3 := dk_seg dksX9_letter_2 23 rfl rfl
theorem dX9_letter_0 : decode cX9_letter 0 = .ok (.aload_n 0, 1) := dk_42 (dk_at dksX9_letter_0 0 rfl rfl)
theorem dX9_letter_1 : decode cX9_letter 1 = .ok (.iconst 0, 1) := dk_3 (dk_at dksX9_letter_0 1 rfl rfl)
theorem dX9_letter_2 : decode cX9_letter 2 = .ok (.putfield 77, 3) := dk_181 0 77 (dk_at dksX9_letter_0 2 rfl rfl)
theorem dX9_letter_5 : decode cX9_letter 5 = .ok (.aload_n 0, 1) := dk_42 (dk_at dksX9_letter_0 5 rfl rfl)
theorem dX9_letter_6 : decode cX9_letter 6 = .ok (.iload_n 1, 1) := dk_27 (dk_at dksX9_letter_0 6 rfl rfl)
theorem dX9_letter_7 : decode cX9_letter 7 = .ok (.invokevirtual 322, 3) := dk_182 1 66 (dk_at dksX9_letter_0 7 rfl rfl)
theorem dX9_letter_10 : decode cX9_letter 10 = .ok (.ifCond .ne 9, 3) := dk_154 0 9 (dk_at dksX9_letter_0 10 rfl rfl)
theorem dX9_letter_13 : decode cX9_letter 13 = .ok (.aload_n 0, 1) := dk_42 (dk_at dksX9_letter_0 13 rfl rfl)
theorem dX9_letter_14 : decode cX9_letter 14 = .ok (.iconst 1, 1) := dk_4 (dk_at dksX9_letter_0 14 rfl rfl)
theorem dX9_letter_15 : decode cX9_letter 15 = .ok (.invokevirtual 181, 3) := dk_182 0 181 (dk_at dksX9_letter_0 15 rfl rfl)
theorem dX9_letter_18 : decode cX9_letter 18 = .ok (.ireturn, 1) := dk_172 (dk_at dksX9_letter_0 18 rfl rfl)
theorem dX9_letter_19 : decode cX9_letter 19 = .ok (.iload_n 2, 1) := dk_28 (dk_at dksX9_letter_0 19 rfl rfl)
theorem dX9_letter_20 : decode cX9_letter 20 = .ok (.tableswitch 67 0 5 #[40, 40, 40, 47, 53, 60], 40) := by decide +kernel
theorem dX9_letter_60 : decode cX9_letter 60 = .ok (.aload_n 0, 1) := dk_42 (dk_at dksX9_letter_2 0 rfl rfl)
theorem dX9_letter_61 : decode cX9_letter 61 = .ok (.iload_n 1, 1) := dk_27 (dk_at dksX9_letter_2 1 rfl rfl)
theorem dX9_letter_62 : decode cX9_letter 62 = .ok (.iload_n 2, 1) := dk_28 (dk_at dksX9_letter_2 2 rfl rfl)
theorem dX9_letter_63 : decode cX9_letter 63 = .ok (.invokevirtual 160, 3) := dk_182 0 160 (dk_at dksX9_letter_2 3 rfl rfl)
theorem dX9_letter_66 : decode cX9_letter 66 = .ok (.ireturn, 1) := dk_172 (dk_at dksX9_letter_2 6 rfl rfl)
theorem dX9_letter_67 : decode cX9_letter 67 = .ok (.aload_n 0, 1) := dk_42 (dk_at dksX9_letter_2 7 rfl rfl)
theorem dX9_letter_68 : decode cX9_letter 68 = .ok (.iload_n 1, 1) := dk_27 (dk_at dksX9_letter_2 8 rfl rfl)
theorem dX9_letter_69 : decode cX9_letter 69 = .ok (.invokevirtual 383, 3) := dk_182 1 127 (dk_at dksX9_letter_2 9 rfl rfl)
theorem dX9_letter_72 : decode cX9_letter 72 = .ok (.ireturn, 1) := dk_172 (dk_at dksX9_letter_2 12 rfl rfl)
theorem dX9_letter_73 : decode cX9_letter 73 = .ok (.aload_n 0, 1) := dk_42 (dk_at dksX9_letter_2 13 rfl rfl)
theorem dX9_letter_74 : decode cX9_letter 74 = .ok (.iload_n 1, 1) := dk_27 (dk_at dksX9_letter_2 14 rfl rfl)
theorem dX9_letter_75 : decode cX9_letter 75 = .ok (.iconst 4, 1) := dk_7 (dk_at dksX9_letter_2 15 rfl rfl)
theorem dX9_letter_76 : decode cX9_letter 76 = .ok (.invokevirtual 160, 3) := dk_182 0 160 (dk_at dksX9_letter_2 16 rfl rfl)
theorem dX9_letter_79 : decode cX9_letter 79 = .ok (.ireturn, 1) := dk_172 (dk_at dksX9_letter_2 19 rfl rfl)
theorem dX9_letter_80 : decode cX9_letter 80 = .ok (.aload_n 0, 1) := dk_42 (dk_at dksX9_letter_2 20 rfl rfl)
theorem dX9_letter_81 : decode cX9_letter 81 = .ok (.iload_n 1, 1) := dk_27 (dk_at dksX9_letter_2 21 rfl rfl)
theorem dX9_letter_82 : decode cX9_letter 82 = .ok (.iconst 5, 1) := dk_8 (dk_at dksX9_letter_2 22 rfl rfl)
theorem dX9_letter_83 : decode cX9_letter 83 = .ok (.invokevirtual 160, 3) := dk_182 0 160 (dk_at dksX9_letter_3 0 rfl rfl)
theorem dX9_letter_86 : decode cX9_letter 86 = .ok (.ireturn, 1) := dk_172 (dk_at dksX9_letter_3 3 rfl rfl)
theorem dX9_letter_87 : decode cX9_letter 87 = .ok (.aload_n 0, 1) := dk_42 (dk_at dksX9_letter_3 4 rfl rfl)
theorem dX9_letter_88 : decode cX9_letter 88 = .ok (.iconst 2, 1) := dk_5 (dk_at dksX9_letter_3 5 rfl rfl)
theorem dX9_letter_89 : decode cX9_letter 89 = .ok (.invokevirtual 181, 3) := dk_182 0 181 (dk_at dksX9_letter_3 6 rfl rfl)
theorem dX9_letter_92 : decode cX9_letter 92 = .ok (.ireturn, 1) := dk_172 (dk_at dksX9_letter_3 9 rfl rfl)
abbrev cX9_cellOf : ByteArray := prog_16_method_93_code
def yX9_cellOf : MethodName := ⟨RX9, "cellOf", "(I)I"⟩
def dkwX9_cellOf_2 : List UInt8 := [42, 27, 6, 182, 0, 160, 172, 42, 42, 27, 7, 182, 0, 160, 3, 182, 0, 80, 172, 2, 172]
abbrev dktX9_cellOf_2 : List UInt8 := dkwX9_cellOf_2 ++ []
def dkwX9_cellOf_1 : List UInt8 := [171, 0, 0, 0, 0, 45, 0, 0, 0, 2, 0, 0, 0, 0, 0, 0, 0, 26, 0, 0, 0, 1, 0, 0, 0, 33]
abbrev dktX9_cellOf_1 : List UInt8 := dkwX9_cellOf_1 ++ dktX9_cellOf_2
def dkwX9_cellOf_0 : List UInt8 := [42, 27, 5, 182, 0, 160]
abbrev dktX9_cellOf_0 : List UInt8 := dkwX9_cellOf_0 ++ dktX9_cellOf_1
theorem dksX9_cellOf_0 : cX9_cellOf.data.toList.drop 0 = dktX9_cellOf_0 := by decide +kernel
theorem dksX9_cellOf_1 : cX9_cellOf.data.toList.drop 6 = dktX9_cellOf_1 := dk_seg dksX9_cellOf_0 6 rfl rfl
theorem dksX9_cellOf_2 : cX9_cellOf.data.toList.drop 32 = dktX9_cellOf_2 := dk_seg dksX9_cellOf_1 26 rfl rfl
theorem dX9_cellOf_0 : decode cX9_cellOf 0 = .ok (.aload_n 0, 1) := dk_42 (dk_at dksX9_cellOf_0 0 rfl rfl)
theorem dX9_cellOf_1 : decode cX9_cellOf 1 = .ok (.iload_n 1, 1) := dk_27 (dk_at dksX9_cellOf_0 1 rfl rfl)
theorem dX9_cellOf_2 : decode cX9_cellOf 2 = .ok (.iconst 2, 1) := dk_5 (dk_at dksX9_cellOf_0 2 rfl rfl)
theorem dX9_cellOf_3 : decode cX9_cellOf 3 = .ok (.invokevirtual 160, 3) := dk_182 0 160 (dk_at dksX9_cellOf_0 3 rfl rfl)
theorem dX9_cellOf_6 : decode cX9_cellOf 6 = .ok (.lookupswitch 45 #[(0, 26), (1, 33)], 26) := by decide +kernel
theorem dX9_cellOf_32 : decode cX9_cellOf 32 = .ok (.aload_n 0, 1) := dk_42 (dk_at dksX9_cellOf_2 0 rfl rfl)
theorem dX9_cellOf_33 : decode cX9_cellOf 33 = .ok (.iload_n 1, 1) := dk_27 (dk_at dksX9_cellOf_2 1 rfl rfl)
theorem dX9_cellOf_34 : decode cX9_cellOf 34 = .ok (.iconst 3, 1) := dk_6 (dk_at dksX9_cellOf_2 2 rfl rfl)
theorem dX9_cellOf_35 : decode cX9_cellOf 35 = .ok (.invokevirtual 160, 3) := dk_182 0 160 (dk_at dksX9_cellOf_2 3 rfl rfl)
theorem dX9_cellOf_38 : decode cX9_cellOf 38 = .ok (.ireturn, 1) := dk_172 (dk_at dksX9_cellOf_2 6 rfl rfl)
theorem dX9_cellOf_39 : decode cX9_cellOf 39 = .ok (.aload_n 0, 1) := dk_42 (dk_at dksX9_cellOf_2 7 rfl rfl)
theorem dX9_cellOf_40 : decode cX9_cellOf 40 = .ok (.aload_n 0, 1) := dk_42 (dk_at dksX9_cellOf_2 8 rfl rfl)
theorem dX9_cellOf_41 : decode cX9_cellOf 41 = .ok (.iload_n 1, 1) := dk_27 (dk_at dksX9_cellOf_2 9 rfl rfl)
theorem dX9_cellOf_42 : decode cX9_cellOf 42 = .ok (.iconst 4, 1) := dk_7 (dk_at dksX9_cellOf_2 10 rfl rfl)
theorem dX9_cellOf_43 : decode cX9_cellOf 43 = .ok (.invokevirtual 160, 3) := dk_182 0 160 (dk_at dksX9_cellOf_2 11 rfl rfl)
theorem dX9_cellOf_46 : decode cX9_cellOf 46 = .ok (.iconst 0, 1) := dk_3 (dk_at dksX9_cellOf_2 14 rfl rfl)
theorem dX9_cellOf_47 : decode cX9_cellOf 47 = .ok (.invokevirtual 80, 3) := dk_182 0 80 (dk_at dksX9_cellOf_2 15 rfl rfl)
theorem dX9_cellOf_50 : decode cX9_cellOf 50 = .ok (.ireturn, 1) := dk_172 (dk_at dksX9_cellOf_2 18 rfl rfl)
theorem dX9_cellOf_51 : decode cX9_cellOf 51 = .ok (.iconst (-1), 1) := dk_2 (dk_at dksX9_cellOf_2 19 rfl rfl)
theorem dX9_cellOf_52 : decode cX9_cellOf 52 = .ok (.ireturn, 1) := dk_172 (dk_at dksX9_cellOf_2 20 rfl rfl)
abbrev cX9_gaze : ByteArray := prog_16_method_95_code
def yX9_gaze : MethodName := ⟨RX9, "gaze", "(II)I"⟩
def dkwX9_gaze_1 : List UInt8 := [182, 0, 119, 184, 0, 88, 153, 0, 12, 42, 27, 28, 182, 0, 129, 167, 0, 4, 2, 172]
abbrev dktX9_gaze_1 : List UInt8 := dkwX9_gaze_1 ++ []
def dkwX9_gaze_0 : List UInt8 := [42, 3, 181, 0, 77, 42, 27, 182, 1, 112, 154, 0, 9, 42, 4, 182, 0, 181, 172, 28, 3, 42, 27, 5]
abbrev dktX9_gaze_0 : List UInt8 := dkwX9_gaze_0 ++ dktX9_gaze_1
theorem dksX9_gaze_0 : cX9_gaze.data.toList.drop 0 = dktX9_gaze_0 := by decide +kernel
theorem dksX9_gaze_1 : cX9_gaze.data.toList.drop 24 = dktX9_gaze_1 := dk_seg dksX9_gaze_0 24 rfl rfl
theorem dX9_gaze_0 : decode cX9_gaze 0 = .ok (.aload_n 0, 1) := dk_42 (dk_at dksX9_gaze_0 0 rfl rfl)
theorem dX9_gaze_1 : decode cX9_gaze 1 = .ok (.iconst 0, 1) := dk_3 (dk_at dksX9_gaze_0 1 rfl rfl)
theorem dX9_gaze_2 : decode cX9_gaze 2 = .ok (.putfield 77, 3) := dk_181 0 77 (dk_at dksX9_gaze_0 2 rfl rfl)
theorem dX9_gaze_5 : decode cX9_gaze 5 = .ok (.aload_n 0, 1) := dk_42 (dk_at dksX9_gaze_0 5 rfl rfl)
theorem dX9_gaze_6 : decode cX9_gaze 6 = .ok (.iload_n 1, 1) := dk_27 (dk_at dksX9_gaze_0 6 rfl rfl)
theorem dX9_gaze_7 : decode cX9_gaze 7 = .ok (.invokevirtual 368, 3) := dk_182 1 112 (dk_at dksX9_gaze_0 7 rfl rfl)
theorem dX9_gaze_10 : decode cX9_gaze 10 = .ok (.ifCond .ne 9, 3) := dk_154 0 9 (dk_at dksX9_gaze_0 10 rfl rfl)
theorem dX9_gaze_13 : decode cX9_gaze 13 = .ok (.aload_n 0, 1) := dk_42 (dk_at dksX9_gaze_0 13 rfl rfl)
theorem dX9_gaze_14 : decode cX9_gaze 14 = .ok (.iconst 1, 1) := dk_4 (dk_at dksX9_gaze_0 14 rfl rfl)
theorem dX9_gaze_15 : decode cX9_gaze 15 = .ok (.invokevirtual 181, 3) := dk_182 0 181 (dk_at dksX9_gaze_0 15 rfl rfl)
theorem dX9_gaze_18 : decode cX9_gaze 18 = .ok (.ireturn, 1) := dk_172 (dk_at dksX9_gaze_0 18 rfl rfl)
theorem dX9_gaze_19 : decode cX9_gaze 19 = .ok (.iload_n 2, 1) := dk_28 (dk_at dksX9_gaze_0 19 rfl rfl)
theorem dX9_gaze_20 : decode cX9_gaze 20 = .ok (.iconst 0, 1) := dk_3 (dk_at dksX9_gaze_0 20 rfl rfl)
theorem dX9_gaze_21 : decode cX9_gaze 21 = .ok (.aload_n 0, 1) := dk_42 (dk_at dksX9_gaze_0 21 rfl rfl)
theorem dX9_gaze_22 : decode cX9_gaze 22 = .ok (.iload_n 1, 1) := dk_27 (dk_at dksX9_gaze_0 22 rfl rfl)
theorem dX9_gaze_23 : decode cX9_gaze 23 = .ok (.iconst 2, 1) := dk_5 (dk_at dksX9_gaze_0 23 rfl rfl)
theorem dX9_gaze_24 : decode cX9_gaze 24 = .ok (.invokevirtual 119, 3) := dk_182 0 119 (dk_at dksX9_gaze_1 0 rfl rfl)
theorem dX9_gaze_27 : decode cX9_gaze 27 = .ok (.invokestatic 88, 3) := dk_184 0 88 (dk_at dksX9_gaze_1 3 rfl rfl)
theorem dX9_gaze_30 : decode cX9_gaze 30 = .ok (.ifCond .eq 12, 3) := dk_153 0 12 (dk_at dksX9_gaze_1 6 rfl rfl)
theorem dX9_gaze_33 : decode cX9_gaze 33 = .ok (.aload_n 0, 1) := dk_42 (dk_at dksX9_gaze_1 9 rfl rfl)
theorem dX9_gaze_34 : decode cX9_gaze 34 = .ok (.iload_n 1, 1) := dk_27 (dk_at dksX9_gaze_1 10 rfl rfl)
theorem dX9_gaze_35 : decode cX9_gaze 35 = .ok (.iload_n 2, 1) := dk_28 (dk_at dksX9_gaze_1 11 rfl rfl)
theorem dX9_gaze_36 : decode cX9_gaze 36 = .ok (.invokevirtual 129, 3) := dk_182 0 129 (dk_at dksX9_gaze_1 12 rfl rfl)
theorem dX9_gaze_39 : decode cX9_gaze 39 = .ok (.goto 4, 3) := dk_167 0 4 (dk_at dksX9_gaze_1 15 rfl rfl)
theorem dX9_gaze_42 : decode cX9_gaze 42 = .ok (.iconst (-1), 1) := dk_2 (dk_at dksX9_gaze_1 18 rfl rfl)
theorem dX9_gaze_43 : decode cX9_gaze 43 = .ok (.ireturn, 1) := dk_172 (dk_at dksX9_gaze_1 19 rfl rfl)
abbrev cX9_why : ByteArray := prog_16_method_101_code
def yX9_why : MethodName := ⟨RX9, "why", "(II)I"⟩
def dkwX9_why_2 : List UInt8 := [167, 0, 23, 28, 4, 160, 0, 12, 42, 27, 29, 182, 1, 139, 167, 0, 9, 42, 27, 29, 182, 1, 142, 172]
abbrev dktX9_why_2 : List UInt8 := dkwX9_why_2 ++ []
def dkwX9_why_1 : List UInt8 := [184, 0, 88, 154, 0, 9, 42, 5, 182, 0, 181, 172, 42, 27, 182, 1, 136, 62, 28, 154, 0, 7, 29]
abbrev dktX9_why_1 : List UInt8 := dkwX9_why_1 ++ dktX9_why_2
def dkwX9_why_0 : List UInt8 := [42, 3, 181, 0, 77, 42, 27, 182, 1, 97, 154, 0, 9, 42, 4, 182, 0, 181, 172, 28, 3, 5]
abbrev dktX9_why_0 : List UInt8 := dkwX9_why_0 ++ dktX9_why_1
theorem dksX9_why_0 : cX9_why.data.toList.drop 0 = dktX9_why_0 := by decide +kernel
theorem dksX9_why_1 : cX9_why.data.toList.drop 22 = dktX9_why_1 := dk_seg dksX9_why_0 22 rfl rfl
theorem dksX9_why_2 : cX9_why.data.toList.drop 45 = dktX9_why_2 := dk_seg dksX9_why_1 23 rfl rfl
theorem dX9_why_0 : decode cX9_why 0 = .ok (.aload_n 0, 1) := dk_42 (dk_at dksX9_why_0 0 rfl rfl)
theorem dX9_why_1 : decode cX9_why 1 = .ok (.iconst 0, 1) := dk_3 (dk_at dksX9_why_0 1 rfl rfl)
theorem dX9_why_2 : decode cX9_why 2 = .ok (.putfield 77, 3) := dk_181 0 77 (dk_at dksX9_why_0 2 rfl rfl)
theorem dX9_why_5 : decode cX9_why 5 = .ok (.aload_n 0, 1) := dk_42 (dk_at dksX9_why_0 5 rfl rfl)
theorem dX9_why_6 : decode cX9_why 6 = .ok (.iload_n 1, 1) := dk_27 (dk_at dksX9_why_0 6 rfl rfl)
theorem dX9_why_7 : decode cX9_why 7 = .ok (.invokevirtual 353, 3) := dk_182 1 97 (dk_at dksX9_why_0 7 rfl rfl)
theorem dX9_why_10 : decode cX9_why 10 = .ok (.ifCond .ne 9, 3) := dk_154 0 9 (dk_at dksX9_why_0 10 rfl rfl)
theorem dX9_why_13 : decode cX9_why 13 = .ok (.aload_n 0, 1) := dk_42 (dk_at dksX9_why_0 13 rfl rfl)
theorem dX9_why_14 : decode cX9_why 14 = .ok (.iconst 1, 1) := dk_4 (dk_at dksX9_why_0 14 rfl rfl)
theorem dX9_why_15 : decode cX9_why 15 = .ok (.invokevirtual 181, 3) := dk_182 0 181 (dk_at dksX9_why_0 15 rfl rfl)
theorem dX9_why_18 : decode cX9_why 18 = .ok (.ireturn, 1) := dk_172 (dk_at dksX9_why_0 18 rfl rfl)
theorem dX9_why_19 : decode cX9_why 19 = .ok (.iload_n 2, 1) := dk_28 (dk_at dksX9_why_0 19 rfl rfl)
theorem dX9_why_20 : decode cX9_why 20 = .ok (.iconst 0, 1) := dk_3 (dk_at dksX9_why_0 20 rfl rfl)
theorem dX9_why_21 : decode cX9_why 21 = .ok (.iconst 2, 1) := dk_5 (dk_at dksX9_why_0 21 rfl rfl)
theorem dX9_why_22 : decode cX9_why 22 = .ok (.invokestatic 88, 3) := dk_184 0 88 (dk_at dksX9_why_1 0 rfl rfl)
theorem dX9_why_25 : decode cX9_why 25 = .ok (.ifCond .ne 9, 3) := dk_154 0 9 (dk_at dksX9_why_1 3 rfl rfl)
theorem dX9_why_28 : decode cX9_why 28 = .ok (.aload_n 0, 1) := dk_42 (dk_at dksX9_why_1 6 rfl rfl)
theorem dX9_why_29 : decode cX9_why 29 = .ok (.iconst 2, 1) := dk_5 (dk_at dksX9_why_1 7 rfl rfl)
theorem dX9_why_30 : decode cX9_why 30 = .ok (.invokevirtual 181, 3) := dk_182 0 181 (dk_at dksX9_why_1 8 rfl rfl)
theorem dX9_why_33 : decode cX9_why 33 = .ok (.ireturn, 1) := dk_172 (dk_at dksX9_why_1 11 rfl rfl)
theorem dX9_why_34 : decode cX9_why 34 = .ok (.aload_n 0, 1) := dk_42 (dk_at dksX9_why_1 12 rfl rfl)
theorem dX9_why_35 : decode cX9_why 35 = .ok (.iload_n 1, 1) := dk_27 (dk_at dksX9_why_1 13 rfl rfl)
theorem dX9_why_36 : decode cX9_why 36 = .ok (.invokevirtual 392, 3) := dk_182 1 136 (dk_at dksX9_why_1 14 rfl rfl)
theorem dX9_why_39 : decode cX9_why 39 = .ok (.istore_n 3, 1) := dk_62 (dk_at dksX9_why_1 17 rfl rfl)
theorem dX9_why_40 : decode cX9_why 40 = .ok (.iload_n 2, 1) := dk_28 (dk_at dksX9_why_1 18 rfl rfl)
theorem dX9_why_41 : decode cX9_why 41 = .ok (.ifCond .ne 7, 3) := dk_154 0 7 (dk_at dksX9_why_1 19 rfl rfl)
theorem dX9_why_44 : decode cX9_why 44 = .ok (.iload_n 3, 1) := dk_29 (dk_at dksX9_why_1 22 rfl rfl)
theorem dX9_why_45 : decode cX9_why 45 = .ok (.goto 23, 3) := dk_167 0 23 (dk_at dksX9_why_2 0 rfl rfl)
theorem dX9_why_48 : decode cX9_why 48 = .ok (.iload_n 2, 1) := dk_28 (dk_at dksX9_why_2 3 rfl rfl)
theorem dX9_why_49 : decode cX9_why 49 = .ok (.iconst 1, 1) := dk_4 (dk_at dksX9_why_2 4 rfl rfl)
theorem dX9_why_50 : decode cX9_why 50 = .ok (.if_icmp .ne 12, 3) := dk_160 0 12 (dk_at dksX9_why_2 5 rfl rfl)
theorem dX9_why_53 : decode cX9_why 53 = .ok (.aload_n 0, 1) := dk_42 (dk_at dksX9_why_2 8 rfl rfl)
theorem dX9_why_54 : decode cX9_why 54 = .ok (.iload_n 1, 1) := dk_27 (dk_at dksX9_why_2 9 rfl rfl)
theorem dX9_why_55 : decode cX9_why 55 = .ok (.iload_n 3, 1) := dk_29 (dk_at dksX9_why_2 10 rfl rfl)
theorem dX9_why_56 : decode cX9_why 56 = .ok (.invokevirtual 395, 3) := dk_182 1 139 (dk_at dksX9_why_2 11 rfl rfl)
theorem dX9_why_59 : decode cX9_why 59 = .ok (.goto 9, 3) := dk_167 0 9 (dk_at dksX9_why_2 14 rfl rfl)
theorem dX9_why_62 : decode cX9_why 62 = .ok (.aload_n 0, 1) := dk_42 (dk_at dksX9_why_2 17 rfl rfl)
theorem dX9_why_63 : decode cX9_why 63 = .ok (.iload_n 1, 1) := dk_27 (dk_at dksX9_why_2 18 rfl rfl)
theorem dX9_why_64 : decode cX9_why 64 = .ok (.iload_n 3, 1) := dk_29 (dk_at dksX9_why_2 19 rfl rfl)
theorem dX9_why_65 : decode cX9_why 65 = .ok (.invokevirtual 398, 3) := dk_182 1 142 (dk_at dksX9_why_2 20 rfl rfl)
theorem dX9_why_68 : decode cX9_why 68 = .ok (.ireturn, 1) := dk_172 (dk_at dksX9_why_2 23 rfl rfl)
abbrev cX9_reasonOf : ByteArray := prog_16_method_98_code
def yX9_reasonOf : MethodName := ⟨RX9, "reasonOf", "(I)I"⟩
def dkwX9_reasonOf_1 : List UInt8 := [182, 1, 130, 2, 159, 0, 7, 6, 167, 0, 4, 7, 172]
abbrev dktX9_reasonOf_1 : List UInt8 := dkwX9_reasonOf_1 ++ []
def dkwX9_reasonOf_0 : List UInt8 := [42, 27, 182, 1, 124, 153, 0, 5, 4, 172, 42, 27, 182, 0, 125, 153, 0, 7, 5, 167, 0, 17, 42, 27]
abbrev dktX9_reasonOf_0 : List UInt8 := dkwX9_reasonOf_0 ++ dktX9_reasonOf_1
theorem dksX9_reasonOf_0 : cX9_reasonOf.data.toList.drop 0 = dktX9_reasonOf_0 := by decide +kernel
theorem dksX9_reasonOf_1 : cX9_reasonOf.data.toList.drop 24 = dktX9_reasonOf_1 := dk_seg dksX9_reasonOf_0 24 rfl rfl
theorem dX9_reasonOf_0 : decode cX9_reasonOf 0 = .ok (.aload_n 0, 1) := dk_42 (dk_at dksX9_reasonOf_0 0 rfl rfl)
theorem dX9_reasonOf_1 : decode cX9_reasonOf 1 = .ok (.iload_n 1, 1) := dk_27 (dk_at dksX9_reasonOf_0 1 rfl rfl)
theorem dX9_reasonOf_2 : decode cX9_reasonOf 2 = .ok (.invokevirtual 380, 3) := dk_182 1 124 (dk_at dksX9_reasonOf_0 2 rfl rfl)
theorem dX9_reasonOf_5 : decode cX9_reasonOf 5 = .ok (.ifCond .eq 5, 3) := dk_153 0 5 (dk_at dksX9_reasonOf_0 5 rfl rfl)
theorem dX9_reasonOf_8 : decode cX9_reasonOf 8 = .ok (.iconst 1, 1) := dk_4 (dk_at dksX9_reasonOf_0 8 rfl rfl)
theorem dX9_reasonOf_9 : decode cX9_reasonOf 9 = .ok (.ireturn, 1) := dk_172 (dk_at dksX9_reasonOf_0 9 rfl rfl)
theorem dX9_reasonOf_10 : decode cX9_reasonOf 10 = .ok (.aload_n 0, 1) := dk_42 (dk_at dksX9_reasonOf_0 10 rfl rfl)
theorem dX9_reasonOf_11 : decode cX9_reasonOf 11 = .ok (.iload_n 1, 1) := dk_27 (dk_at dksX9_reasonOf_0 11 rfl rfl)
theorem dX9_reasonOf_12 : decode cX9_reasonOf 12 = .ok (.invokevirtual 125, 3) := dk_182 0 125 (dk_at dksX9_reasonOf_0 12 rfl rfl)
theorem dX9_reasonOf_15 : decode cX9_reasonOf 15 = .ok (.ifCond .eq 7, 3) := dk_153 0 7 (dk_at dksX9_reasonOf_0 15 rfl rfl)
theorem dX9_reasonOf_18 : decode cX9_reasonOf 18 = .ok (.iconst 2, 1) := dk_5 (dk_at dksX9_reasonOf_0 18 rfl rfl)
theorem dX9_reasonOf_19 : decode cX9_reasonOf 19 = .ok (.goto 17, 3) := dk_167 0 17 (dk_at dksX9_reasonOf_0 19 rfl rfl)
theorem dX9_reasonOf_22 : decode cX9_reasonOf 22 = .ok (.aload_n 0, 1) := dk_42 (dk_at dksX9_reasonOf_0 22 rfl rfl)
theorem dX9_reasonOf_23 : decode cX9_reasonOf 23 = .ok (.iload_n 1, 1) := dk_27 (dk_at dksX9_reasonOf_0 23 rfl rfl)
theorem dX9_reasonOf_24 : decode cX9_reasonOf 24 = .ok (.invokevirtual 386, 3) := dk_182 1 130 (dk_at dksX9_reasonOf_1 0 rfl rfl)
theorem dX9_reasonOf_27 : decode cX9_reasonOf 27 = .ok (.iconst (-1), 1) := dk_2 (dk_at dksX9_reasonOf_1 3 rfl rfl)
theorem dX9_reasonOf_28 : decode cX9_reasonOf 28 = .ok (.if_icmp .eq 7, 3) := dk_159 0 7 (dk_at dksX9_reasonOf_1 4 rfl rfl)
theorem dX9_reasonOf_31 : decode cX9_reasonOf 31 = .ok (.iconst 3, 1) := dk_6 (dk_at dksX9_reasonOf_1 7 rfl rfl)
theorem dX9_reasonOf_32 : decode cX9_reasonOf 32 = .ok (.goto 4, 3) := dk_167 0 4 (dk_at dksX9_reasonOf_1 8 rfl rfl)
theorem dX9_reasonOf_35 : decode cX9_reasonOf 35 = .ok (.iconst 4, 1) := dk_7 (dk_at dksX9_reasonOf_1 11 rfl rfl)
theorem dX9_reasonOf_36 : decode cX9_reasonOf 36 = .ok (.ireturn, 1) := dk_172 (dk_at dksX9_reasonOf_1 12 rfl rfl)
abbrev cX9_lowestGazer : ByteArray := prog_16_method_97_code
def yX9_lowestGazer : MethodName := ⟨RX9, "lowestGazer", "(I)I"⟩
def dkwX9_lowestGazer_1 : List UInt8 := [132, 2, 1, 167, 255, 231, 2, 172]
abbrev dktX9_lowestGazer_1 : List UInt8 := dkwX9_lowestGazer_1 ++ []
def dkwX9_lowestGazer_0 : List UInt8 := [3, 61, 28, 42, 180, 0, 7, 7, 46, 162, 0, 21, 42, 28, 27, 182, 0, 135, 2, 159, 0, 5, 28, 172]
abbrev dktX9_lowestGazer_0 : List UInt8 := dkwX9_lowestGazer_0 ++ dktX9_lowestGazer_1
theorem dksX9_lowestGazer_0 : cX9_lowestGazer.data.toList.drop 0 = dktX9_lowestGazer_0 := by decide +kernel
theorem dksX9_lowestGazer_1 : cX9_lowestGazer.data.toList.drop 24 = dktX9_lowestGazer_1 := dk_seg dksX9_lowestGazer_0 24 rfl rfl
theorem dX9_lowestGazer_0 : decode cX9_lowestGazer 0 = .ok (.iconst 0, 1) := dk_3 (dk_at dksX9_lowestGazer_0 0 rfl rfl)
theorem dX9_lowestGazer_1 : decode cX9_lowestGazer 1 = .ok (.istore_n 2, 1) := dk_61 (dk_at dksX9_lowestGazer_0 1 rfl rfl)
theorem dX9_lowestGazer_2 : decode cX9_lowestGazer 2 = .ok (.iload_n 2, 1) := dk_28 (dk_at dksX9_lowestGazer_0 2 rfl rfl)
theorem dX9_lowestGazer_3 : decode cX9_lowestGazer 3 = .ok (.aload_n 0, 1) := dk_42 (dk_at dksX9_lowestGazer_0 3 rfl rfl)
theorem dX9_lowestGazer_4 : decode cX9_lowestGazer 4 = .ok (.getfield 7, 3) := dk_180 0 7 (dk_at dksX9_lowestGazer_0 4 rfl rfl)
theorem dX9_lowestGazer_7 : decode cX9_lowestGazer 7 = .ok (.iconst 4, 1) := dk_7 (dk_at dksX9_lowestGazer_0 7 rfl rfl)
theorem dX9_lowestGazer_8 : decode cX9_lowestGazer 8 = .ok (.iaload, 1) := dk_46 (dk_at dksX9_lowestGazer_0 8 rfl rfl)
theorem dX9_lowestGazer_9 : decode cX9_lowestGazer 9 = .ok (.if_icmp .ge 21, 3) := dk_162 0 21 (dk_at dksX9_lowestGazer_0 9 rfl rfl)
theorem dX9_lowestGazer_12 : decode cX9_lowestGazer 12 = .ok (.aload_n 0, 1) := dk_42 (dk_at dksX9_lowestGazer_0 12 rfl rfl)
theorem dX9_lowestGazer_13 : decode cX9_lowestGazer 13 = .ok (.iload_n 2, 1) := dk_28 (dk_at dksX9_lowestGazer_0 13 rfl rfl)
theorem dX9_lowestGazer_14 : decode cX9_lowestGazer 14 = .ok (.iload_n 1, 1) := dk_27 (dk_at dksX9_lowestGazer_0 14 rfl rfl)
theorem dX9_lowestGazer_15 : decode cX9_lowestGazer 15 = .ok (.invokevirtual 135, 3) := dk_182 0 135 (dk_at dksX9_lowestGazer_0 15 rfl rfl)
theorem dX9_lowestGazer_18 : decode cX9_lowestGazer 18 = .ok (.iconst (-1), 1) := dk_2 (dk_at dksX9_lowestGazer_0 18 rfl rfl)
theorem dX9_lowestGazer_19 : decode cX9_lowestGazer 19 = .ok (.if_icmp .eq 5, 3) := dk_159 0 5 (dk_at dksX9_lowestGazer_0 19 rfl rfl)
theorem dX9_lowestGazer_22 : decode cX9_lowestGazer 22 = .ok (.iload_n 2, 1) := dk_28 (dk_at dksX9_lowestGazer_0 22 rfl rfl)
theorem dX9_lowestGazer_23 : decode cX9_lowestGazer 23 = .ok (.ireturn, 1) := dk_172 (dk_at dksX9_lowestGazer_0 23 rfl rfl)
theorem dX9_lowestGazer_24 : decode cX9_lowestGazer 24 = .ok (.iinc 2 1, 3) := dk_132 2 1 (dk_at dksX9_lowestGazer_1 0 rfl rfl)
theorem dX9_lowestGazer_27 : decode cX9_lowestGazer 27 = .ok (.goto (-25), 3) := dk_167 255 231 (dk_at dksX9_lowestGazer_1 3 rfl rfl)
theorem dX9_lowestGazer_30 : decode cX9_lowestGazer 30 = .ok (.iconst (-1), 1) := dk_2 (dk_at dksX9_lowestGazer_1 6 rfl rfl)
theorem dX9_lowestGazer_31 : decode cX9_lowestGazer 31 = .ok (.ireturn, 1) := dk_172 (dk_at dksX9_lowestGazer_1 7 rfl rfl)
abbrev cX9_causeOf : ByteArray := prog_16_method_99_code
def yX9_causeOf : MethodName := ⟨RX9, "causeOf", "(II)I"⟩
def dkwX9_causeOf_1 : List UInt8 := [42, 27, 182, 1, 130, 96, 167, 0, 4, 3, 172]
abbrev dktX9_causeOf_1 : List UInt8 := dkwX9_causeOf_1 ++ []
def dkwX9_causeOf_0 : List UInt8 := [28, 4, 160, 0, 14, 16, 100, 42, 27, 182, 1, 133, 96, 167, 0, 21, 28, 6, 160, 0, 15, 17, 0, 200]
abbrev dktX9_causeOf_0 : List UInt8 := dkwX9_causeOf_0 ++ dktX9_causeOf_1
theorem dksX9_causeOf_0 : cX9_causeOf.data.toList.drop 0 = dktX9_causeOf_0 := by decide +kernel
theorem dksX9_causeOf_1 : cX9_causeOf.data.toList.drop 24 = dktX9_causeOf_1 := dk_seg dksX9_causeOf_0 24 rfl rfl
theorem dX9_causeOf_0 : decode cX9_causeOf 0 = .ok (.iload_n 2, 1) := dk_28 (dk_at dksX9_causeOf_0 0 rfl rfl)
theorem dX9_causeOf_1 : decode cX9_causeOf 1 = .ok (.iconst 1, 1) := dk_4 (dk_at dksX9_causeOf_0 1 rfl rfl)
theorem dX9_causeOf_2 : decode cX9_causeOf 2 = .ok (.if_icmp .ne 14, 3) := dk_160 0 14 (dk_at dksX9_causeOf_0 2 rfl rfl)
theorem dX9_causeOf_5 : decode cX9_causeOf 5 = .ok (.bipush 100, 2) := dk_16 100 (dk_at dksX9_causeOf_0 5 rfl rfl)
theorem dX9_causeOf_7 : decode cX9_causeOf 7 = .ok (.aload_n 0, 1) := dk_42 (dk_at dksX9_causeOf_0 7 rfl rfl)
theorem dX9_causeOf_8 : decode cX9_causeOf 8 = .ok (.iload_n 1, 1) := dk_27 (dk_at dksX9_causeOf_0 8 rfl rfl)
theorem dX9_causeOf_9 : decode cX9_causeOf 9 = .ok (.invokevirtual 389, 3) := dk_182 1 133 (dk_at dksX9_causeOf_0 9 rfl rfl)
theorem dX9_causeOf_12 : decode cX9_causeOf 12 = .ok (.iadd, 1) := dk_96 (dk_at dksX9_causeOf_0 12 rfl rfl)
theorem dX9_causeOf_13 : decode cX9_causeOf 13 = .ok (.goto 21, 3) := dk_167 0 21 (dk_at dksX9_causeOf_0 13 rfl rfl)
theorem dX9_causeOf_16 : decode cX9_causeOf 16 = .ok (.iload_n 2, 1) := dk_28 (dk_at dksX9_causeOf_0 16 rfl rfl)
theorem dX9_causeOf_17 : decode cX9_causeOf 17 = .ok (.iconst 3, 1) := dk_6 (dk_at dksX9_causeOf_0 17 rfl rfl)
theorem dX9_causeOf_18 : decode cX9_causeOf 18 = .ok (.if_icmp .ne 15, 3) := dk_160 0 15 (dk_at dksX9_causeOf_0 18 rfl rfl)
theorem dX9_causeOf_21 : decode cX9_causeOf 21 = .ok (.sipush 200, 3) := dk_17 0 200 (dk_at dksX9_causeOf_0 21 rfl rfl)
theorem dX9_causeOf_24 : decode cX9_causeOf 24 = .ok (.aload_n 0, 1) := dk_42 (dk_at dksX9_causeOf_1 0 rfl rfl)
theorem dX9_causeOf_25 : decode cX9_causeOf 25 = .ok (.iload_n 1, 1) := dk_27 (dk_at dksX9_causeOf_1 1 rfl rfl)
theorem dX9_causeOf_26 : decode cX9_causeOf 26 = .ok (.invokevirtual 386, 3) := dk_182 1 130 (dk_at dksX9_causeOf_1 2 rfl rfl)
theorem dX9_causeOf_29 : decode cX9_causeOf 29 = .ok (.iadd, 1) := dk_96 (dk_at dksX9_causeOf_1 5 rfl rfl)
theorem dX9_causeOf_30 : decode cX9_causeOf 30 = .ok (.goto 4, 3) := dk_167 0 4 (dk_at dksX9_causeOf_1 6 rfl rfl)
theorem dX9_causeOf_33 : decode cX9_causeOf 33 = .ok (.iconst 0, 1) := dk_3 (dk_at dksX9_causeOf_1 9 rfl rfl)
theorem dX9_causeOf_34 : decode cX9_causeOf 34 = .ok (.ireturn, 1) := dk_172 (dk_at dksX9_causeOf_1 10 rfl rfl)
abbrev cX9_lowestSeer : ByteArray := prog_16_method_96_code
def yX9_lowestSeer : MethodName := ⟨RX9, "lowestSeer", "(I)I"⟩
def dkwX9_lowestSeer_0 : List UInt8 := [3, 61, 42, 28, 27, 182, 0, 141, 154, 0, 9, 132, 2, 1, 167, 255, 244, 28, 172]
abbrev dktX9_lowestSeer_0 : List UInt8 := dkwX9_lowestSeer_0 ++ []
theorem dksX9_lowestSeer_0 : cX9_lowestSeer.data.toList.drop 0 = dktX9_lowestSeer_0 := by decide +kernel
theorem dX9_lowestSeer_0 : decode cX9_lowestSeer 0 = .ok (.iconst 0, 1) := dk_3 (dk_at dksX9_lowestSeer_0 0 rfl rfl)
theorem dX9_lowestSeer_1 : decode cX9_lowestSeer 1 = .ok (.istore_n 2, 1) := dk_61 (dk_at dksX9_lowestSeer_0 1 rfl rfl)
theorem dX9_lowestSeer_2 : decode cX9_lowestSeer 2 = .ok (.aload_n 0, 1) := dk_42 (dk_at dksX9_lowestSeer_0 2 rfl rfl)
theorem dX9_lowestSeer_3 : decode cX9_lowestSeer 3 = .ok (.iload_n 2, 1) := dk_28 (dk_at dksX9_lowestSeer_0 3 rfl rfl)
theorem dX9_lowestSeer_4 : decode cX9_lowestSeer 4 = .ok (.iload_n 1, 1) := dk_27 (dk_at dksX9_lowestSeer_0 4 rfl rfl)
theorem dX9_lowestSeer_5 : decode cX9_lowestSeer 5 = .ok (.invokevirtual 141, 3) := dk_182 0 141 (dk_at dksX9_lowestSeer_0 5 rfl rfl)
theorem dX9_lowestSeer_8 : decode cX9_lowestSeer 8 = .ok (.ifCond .ne 9, 3) := dk_154 0 9 (dk_at dksX9_lowestSeer_0 8 rfl rfl)
theorem dX9_lowestSeer_11 : decode cX9_lowestSeer 11 = .ok (.iinc 2 1, 3) := dk_132 2 1 (dk_at dksX9_lowestSeer_0 11 rfl rfl)
theorem dX9_lowestSeer_14 : decode cX9_lowestSeer 14 = .ok (.goto (-12), 3) := dk_167 255 244 (dk_at dksX9_lowestSeer_0 14 rfl rfl)
theorem dX9_lowestSeer_17 : decode cX9_lowestSeer 17 = .ok (.iload_n 2, 1) := dk_28 (dk_at dksX9_lowestSeer_0 17 rfl rfl)
theorem dX9_lowestSeer_18 : decode cX9_lowestSeer 18 = .ok (.ireturn, 1) := dk_172 (dk_at dksX9_lowestSeer_0 18 rfl rfl)
abbrev cX9_furtherOf : ByteArray := prog_16_method_100_code
def yX9_furtherOf : MethodName := ⟨RX9, "furtherOf", "(II)I"⟩
def dkwX9_furtherOf_2 : List UInt8 := [182, 0, 138, 96, 42, 29, 5, 182, 0, 119, 100, 172]
abbrev dktX9_furtherOf_2 : List UInt8 := dkwX9_furtherOf_2 ++ []
def dkwX9_furtherOf_1 : List UInt8 := [159, 0, 5, 3, 172, 42, 27, 182, 1, 130, 62, 17, 1, 144, 42, 29, 42, 29, 27, 182, 0, 135]
abbrev dktX9_furtherOf_1 : List UInt8 := dkwX9_furtherOf_1 ++ dktX9_furtherOf_2
def dkwX9_furtherOf_0 : List UInt8 := [28, 4, 160, 0, 18, 17, 1, 44, 42, 42, 27, 182, 1, 133, 27, 182, 0, 135, 96, 172, 28, 6]
abbrev dktX9_furtherOf_0 : List UInt8 := dkwX9_furtherOf_0 ++ dktX9_furtherOf_1
theorem dksX9_furtherOf_0 : cX9_furtherOf.data.toList.drop 0 = dktX9_furtherOf_0 := by decide +kernel
theorem dksX9_furtherOf_1 : cX9_furtherOf.data.toList.drop 22 = dktX9_furtherOf_1 := dk_seg dksX9_furtherOf_0 22 rfl rfl
theorem dksX9_furtherOf_2 : cX9_furtherOf.data.toList.drop 44 = dktX9_furtherOf_2 := dk_seg dksX9_furtherOf_1 22 rfl rfl
theorem dX9_furtherOf_0 : decode cX9_furtherOf 0 = .ok (.iload_n 2, 1) := dk_28 (dk_at dksX9_furtherOf_0 0 rfl rfl)
theorem dX9_furtherOf_1 : decode cX9_furtherOf 1 = .ok (.iconst 1, 1) := dk_4 (dk_at dksX9_furtherOf_0 1 rfl rfl)
theorem dX9_furtherOf_2 : decode cX9_furtherOf 2 = .ok (.if_icmp .ne 18, 3) := dk_160 0 18 (dk_at dksX9_furtherOf_0 2 rfl rfl)
theorem dX9_furtherOf_5 : decode cX9_furtherOf 5 = .ok (.sipush 300, 3) := dk_17 1 44 (dk_at dksX9_furtherOf_0 5 rfl rfl)
theorem dX9_furtherOf_8 : decode cX9_furtherOf 8 = .ok (.aload_n 0, 1) := dk_42 (dk_at dksX9_furtherOf_0 8 rfl rfl)
theorem dX9_furtherOf_9 : decode cX9_furtherOf 9 = .ok (.aload_n 0, 1) := dk_42 (dk_at dksX9_furtherOf_0 9 rfl rfl)
theorem dX9_furtherOf_10 : decode cX9_furtherOf 10 = .ok (.iload_n 1, 1) := dk_27 (dk_at dksX9_furtherOf_0 10 rfl rfl)
theorem dX9_furtherOf_11 : decode cX9_furtherOf 11 = .ok (.invokevirtual 389, 3) := dk_182 1 133 (dk_at dksX9_furtherOf_0 11 rfl rfl)
theorem dX9_furtherOf_14 : decode cX9_furtherOf 14 = .ok (.iload_n 1, 1) := dk_27 (dk_at dksX9_furtherOf_0 14 rfl rfl)
theorem dX9_furtherOf_15 : decode cX9_furtherOf 15 = .ok (.invokevirtual 135, 3) := dk_182 0 135 (dk_at dksX9_furtherOf_0 15 rfl rfl)
theorem dX9_furtherOf_18 : decode cX9_furtherOf 18 = .ok (.iadd, 1) := dk_96 (dk_at dksX9_furtherOf_0 18 rfl rfl)
theorem dX9_furtherOf_19 : decode cX9_furtherOf 19 = .ok (.ireturn, 1) := dk_172 (dk_at dksX9_furtherOf_0 19 rfl rfl)
theorem dX9_furtherOf_20 : decode cX9_furtherOf 20 = .ok (.iload_n 2, 1) := dk_28 (dk_at dksX9_furtherOf_0 20 rfl rfl)
theorem dX9_furtherOf_21 : decode cX9_furtherOf 21 = .ok (.iconst 3, 1) := dk_6 (dk_at dksX9_furtherOf_0 21 rfl rfl)
theorem dX9_furtherOf_22 : decode cX9_furtherOf 22 = .ok (.if_icmp .eq 5, 3) := dk_159 0 5 (dk_at dksX9_furtherOf_1 0 rfl rfl)
theorem dX9_furtherOf_25 : decode cX9_furtherOf 25 = .ok (.iconst 0, 1) := dk_3 (dk_at dksX9_furtherOf_1 3 rfl rfl)
theorem dX9_furtherOf_26 : decode cX9_furtherOf 26 = .ok (.ireturn, 1) := dk_172 (dk_at dksX9_furtherOf_1 4 rfl rfl)
theorem dX9_furtherOf_27 : decode cX9_furtherOf 27 = .ok (.aload_n 0, 1) := dk_42 (dk_at dksX9_furtherOf_1 5 rfl rfl)
theorem dX9_furtherOf_28 : decode cX9_furtherOf 28 = .ok (.iload_n 1, 1) := dk_27 (dk_at dksX9_furtherOf_1 6 rfl rfl)
theorem dX9_furtherOf_29 : decode cX9_furtherOf 29 = .ok (.invokevirtual 386, 3) := dk_182 1 130 (dk_at dksX9_furtherOf_1 7 rfl rfl)
theorem dX9_furtherOf_32 : decode cX9_furtherOf 32 = .ok (.istore_n 3, 1) := dk_62 (dk_at dksX9_furtherOf_1 10 rfl rfl)
theorem dX9_furtherOf_33 : decode cX9_furtherOf 33 = .ok (.sipush 400, 3) := dk_17 1 144 (dk_at dksX9_furtherOf_1 11 rfl rfl)
theorem dX9_furtherOf_36 : decode cX9_furtherOf 36 = .ok (.aload_n 0, 1) := dk_42 (dk_at dksX9_furtherOf_1 14 rfl rfl)
theorem dX9_furtherOf_37 : decode cX9_furtherOf 37 = .ok (.iload_n 3, 1) := dk_29 (dk_at dksX9_furtherOf_1 15 rfl rfl)
theorem dX9_furtherOf_38 : decode cX9_furtherOf 38 = .ok (.aload_n 0, 1) := dk_42 (dk_at dksX9_furtherOf_1 16 rfl rfl)
theorem dX9_furtherOf_39 : decode cX9_furtherOf 39 = .ok (.iload_n 3, 1) := dk_29 (dk_at dksX9_furtherOf_1 17 rfl rfl)
theorem dX9_furtherOf_40 : decode cX9_furtherOf 40 = .ok (.iload_n 1, 1) := dk_27 (dk_at dksX9_furtherOf_1 18 rfl rfl)
theorem dX9_furtherOf_41 : decode cX9_furtherOf 41 = .ok (.invokevirtual 135, 3) := dk_182 0 135 (dk_at dksX9_furtherOf_1 19 rfl rfl)
theorem dX9_furtherOf_44 : decode cX9_furtherOf 44 = .ok (.invokevirtual 138, 3) := dk_182 0 138 (dk_at dksX9_furtherOf_2 0 rfl rfl)
theorem dX9_furtherOf_47 : decode cX9_furtherOf 47 = .ok (.iadd, 1) := dk_96 (dk_at dksX9_furtherOf_2 3 rfl rfl)
theorem dX9_furtherOf_48 : decode cX9_furtherOf 48 = .ok (.aload_n 0, 1) := dk_42 (dk_at dksX9_furtherOf_2 4 rfl rfl)
theorem dX9_furtherOf_49 : decode cX9_furtherOf 49 = .ok (.iload_n 3, 1) := dk_29 (dk_at dksX9_furtherOf_2 5 rfl rfl)
theorem dX9_furtherOf_50 : decode cX9_furtherOf 50 = .ok (.iconst 2, 1) := dk_5 (dk_at dksX9_furtherOf_2 6 rfl rfl)
theorem dX9_furtherOf_51 : decode cX9_furtherOf 51 = .ok (.invokevirtual 119, 3) := dk_182 0 119 (dk_at dksX9_furtherOf_2 7 rfl rfl)
theorem dX9_furtherOf_54 : decode cX9_furtherOf 54 = .ok (.isub, 1) := dk_100 (dk_at dksX9_furtherOf_2 10 rfl rfl)
theorem dX9_furtherOf_55 : decode cX9_furtherOf 55 = .ok (.ireturn, 1) := dk_172 (dk_at dksX9_furtherOf_2 11 rfl rfl)
abbrev cX9_gap : ByteArray := prog_16_method_102_code
def yX9_gap : MethodName := ⟨RX9, "gap", "()I"⟩
def dkwX9_gap_6 : List UInt8 := [167, 255, 221, 27, 184, 0, 96, 28, 96, 172]
abbrev dktX9_gap_6 : List UInt8 := dkwX9_gap_6 ++ []
def dkwX9_gap_5 : List UInt8 := [182, 1, 121, 42, 180, 0, 7, 5, 46, 164, 0, 7, 4, 167, 0, 4, 3, 96, 61, 132, 3, 1]
abbrev dktX9_gap_5 : List UInt8 := dkwX9_gap_5 ++ dktX9_gap_6
def dkwX9_gap_4 : List UInt8 := [61, 132, 3, 1, 167, 255, 211, 3, 62, 29, 42, 180, 0, 7, 8, 46, 162, 0, 31, 28, 42, 29]
abbrev dktX9_gap_4 : List UInt8 := dkwX9_gap_4 ++ dktX9_gap_5
def dkwX9_gap_3 : List UInt8 := [42, 29, 182, 0, 125, 153, 0, 17, 42, 29, 182, 1, 106, 42, 29, 182, 1, 103, 96, 167, 0, 4, 3, 96]
abbrev dktX9_gap_3 : List UInt8 := dkwX9_gap_3 ++ dktX9_gap_4
def dkwX9_gap_2 : List UInt8 := [167, 255, 235, 3, 61, 3, 62, 29, 42, 182, 0, 84, 162, 0, 43, 27, 42, 29, 182, 1, 106, 100, 60, 28]
abbrev dktX9_gap_2 : List UInt8 := dkwX9_gap_2 ++ dktX9_gap_3
def dkwX9_gap_1 : List UInt8 := [60, 3, 61, 28, 42, 180, 0, 7, 8, 46, 162, 0, 17, 27, 42, 28, 182, 1, 121, 100, 60, 132, 2, 1]
abbrev dktX9_gap_1 : List UInt8 := dkwX9_gap_1 ++ dktX9_gap_2
def dkwX9_gap_0 : List UInt8 := [42, 3, 181, 0, 77, 42, 180, 0, 7, 16, 6, 46, 42, 5, 182, 1, 88, 100, 42, 6, 182, 1, 88, 100]
abbrev dktX9_gap_0 : List UInt8 := dkwX9_gap_0 ++ dktX9_gap_1
theorem dksX9_gap_0 : cX9_gap.data.toList.drop 0 = dktX9_gap_0 := by decide +kernel
theorem dksX9_gap_1 : cX9_gap.data.toList.drop 24 = dktX9_gap_1 := dk_seg dksX9_gap_0 24 rfl rfl
theorem dksX9_gap_2 : cX9_gap.data.toList.drop 48 = dktX9_gap_2 := dk_seg dksX9_gap_1 24 rfl rfl
theorem dksX9_gap_3 : cX9_gap.data.toList.drop 72 = dktX9_gap_3 := dk_seg dksX9_gap_2 24 rfl rfl
theorem dksX9_gap_4 : cX9_gap.data.toList.drop 96 = dktX9_gap_4 := dk_seg dksX9_gap_3 24 rfl rfl
theorem dksX9_gap_5 : cX9_gap.data.toList.drop 118 = dktX9_gap_5 := dk_seg dksX9_gap_4 22 rfl rfl
theorem dksX9_gap_6 : cX9_gap.data.toList.drop 140 = dktX9_gap_6 := dk_seg dksX9_gap_5 22 rfl rfl
theorem dX9_gap_0 : decode cX9_gap 0 = .ok (.aload_n 0, 1) := dk_42 (dk_at dksX9_gap_0 0 rfl rfl)
theorem dX9_gap_1 : decode cX9_gap 1 = .ok (.iconst 0, 1) := dk_3 (dk_at dksX9_gap_0 1 rfl rfl)
theorem dX9_gap_2 : decode cX9_gap 2 = .ok (.putfield 77, 3) := dk_181 0 77 (dk_at dksX9_gap_0 2 rfl rfl)
theorem dX9_gap_5 : decode cX9_gap 5 = .ok (.aload_n 0, 1) := dk_42 (dk_at dksX9_gap_0 5 rfl rfl)
theorem dX9_gap_6 : decode cX9_gap 6 = .ok (.getfield 7, 3) := dk_180 0 7 (dk_at dksX9_gap_0 6 rfl rfl)
theorem dX9_gap_9 : decode cX9_gap 9 = .ok (.bipush 6, 2) := dk_16 6 (dk_at dksX9_gap_0 9 rfl rfl)
theorem dX9_gap_11 : decode cX9_gap 11 = .ok (.iaload, 1) := dk_46 (dk_at dksX9_gap_0 11 rfl rfl)
theorem dX9_gap_12 : decode cX9_gap 12 = .ok (.aload_n 0, 1) := dk_42 (dk_at dksX9_gap_0 12 rfl rfl)
theorem dX9_gap_13 : decode cX9_gap 13 = .ok (.iconst 2, 1) := dk_5 (dk_at dksX9_gap_0 13 rfl rfl)
theorem dX9_gap_14 : decode cX9_gap 14 = .ok (.invokevirtual 344, 3) := dk_182 1 88 (dk_at dksX9_gap_0 14 rfl rfl)
theorem dX9_gap_17 : decode cX9_gap 17 = .ok (.isub, 1) := dk_100 (dk_at dksX9_gap_0 17 rfl rfl)
theorem dX9_gap_18 : decode cX9_gap 18 = .ok (.aload_n 0, 1) := dk_42 (dk_at dksX9_gap_0 18 rfl rfl)
theorem dX9_gap_19 : decode cX9_gap 19 = .ok (.iconst 3, 1) := dk_6 (dk_at dksX9_gap_0 19 rfl rfl)
theorem dX9_gap_20 : decode cX9_gap 20 = .ok (.invokevirtual 344, 3) := dk_182 1 88 (dk_at dksX9_gap_0 20 rfl rfl)
theorem dX9_gap_23 : decode cX9_gap 23 = .ok (.isub, 1) := dk_100 (dk_at dksX9_gap_0 23 rfl rfl)
theorem dX9_gap_24 : decode cX9_gap 24 = .ok (.istore_n 1, 1) := dk_60 (dk_at dksX9_gap_1 0 rfl rfl)
theorem dX9_gap_25 : decode cX9_gap 25 = .ok (.iconst 0, 1) := dk_3 (dk_at dksX9_gap_1 1 rfl rfl)
theorem dX9_gap_26 : decode cX9_gap 26 = .ok (.istore_n 2, 1) := dk_61 (dk_at dksX9_gap_1 2 rfl rfl)
theorem dX9_gap_27 : decode cX9_gap 27 = .ok (.iload_n 2, 1) := dk_28 (dk_at dksX9_gap_1 3 rfl rfl)
theorem dX9_gap_28 : decode cX9_gap 28 = .ok (.aload_n 0, 1) := dk_42 (dk_at dksX9_gap_1 4 rfl rfl)
theorem dX9_gap_29 : decode cX9_gap 29 = .ok (.getfield 7, 3) := dk_180 0 7 (dk_at dksX9_gap_1 5 rfl rfl)
theorem dX9_gap_32 : decode cX9_gap 32 = .ok (.iconst 5, 1) := dk_8 (dk_at dksX9_gap_1 8 rfl rfl)
theorem dX9_gap_33 : decode cX9_gap 33 = .ok (.iaload, 1) := dk_46 (dk_at dksX9_gap_1 9 rfl rfl)
theorem dX9_gap_34 : decode cX9_gap 34 = .ok (.if_icmp .ge 17, 3) := dk_162 0 17 (dk_at dksX9_gap_1 10 rfl rfl)
theorem dX9_gap_37 : decode cX9_gap 37 = .ok (.iload_n 1, 1) := dk_27 (dk_at dksX9_gap_1 13 rfl rfl)
theorem dX9_gap_38 : decode cX9_gap 38 = .ok (.aload_n 0, 1) := dk_42 (dk_at dksX9_gap_1 14 rfl rfl)
theorem dX9_gap_39 : decode cX9_gap 39 = .ok (.iload_n 2, 1) := dk_28 (dk_at dksX9_gap_1 15 rfl rfl)
theorem dX9_gap_40 : decode cX9_gap 40 = .ok (.invokevirtual 377, 3) := dk_182 1 121 (dk_at dksX9_gap_1 16 rfl rfl)
theorem dX9_gap_43 : decode cX9_gap 43 = .ok (.isub, 1) := dk_100 (dk_at dksX9_gap_1 19 rfl rfl)
theorem dX9_gap_44 : decode cX9_gap 44 = .ok (.istore_n 1, 1) := dk_60 (dk_at dksX9_gap_1 20 rfl rfl)
theorem dX9_gap_45 : decode cX9_gap 45 = .ok (.iinc 2 1, 3) := dk_132 2 1 (dk_at dksX9_gap_1 21 rfl rfl)
theorem dX9_gap_48 : decode cX9_gap 48 = .ok (.goto (-21), 3) := dk_167 255 235 (dk_at dksX9_gap_2 0 rfl rfl)
theorem dX9_gap_51 : decode cX9_gap 51 = .ok (.iconst 0, 1) := dk_3 (dk_at dksX9_gap_2 3 rfl rfl)
theorem dX9_gap_52 : decode cX9_gap 52 = .ok (.istore_n 2, 1) := dk_61 (dk_at dksX9_gap_2 4 rfl rfl)
theorem dX9_gap_53 : decode cX9_gap 53 = .ok (.iconst 0, 1) := dk_3 (dk_at dksX9_gap_2 5 rfl rfl)
theorem dX9_gap_54 : decode cX9_gap 54 = .ok (.istore_n 3, 1) := dk_62 (dk_at dksX9_gap_2 6 rfl rfl)
theorem dX9_gap_55 : decode cX9_gap 55 = .ok (.iload_n 3, 1) := dk_29 (dk_at dksX9_gap_2 7 rfl rfl)
theorem dX9_gap_56 : decode cX9_gap 56 = .ok (.aload_n 0, 1) := dk_42 (dk_at dksX9_gap_2 8 rfl rfl)
theorem dX9_gap_57 : decode cX9_gap 57 = .ok (.invokevirtual 84, 3) := dk_182 0 84 (dk_at dksX9_gap_2 9 rfl rfl)
theorem dX9_gap_60 : decode cX9_gap 60 = .ok (.if_icmp .ge 43, 3) := dk_162 0 43 (dk_at dksX9_gap_2 12 rfl rfl)
theorem dX9_gap_63 : decode cX9_gap 63 = .ok (.iload_n 1, 1) := dk_27 (dk_at dksX9_gap_2 15 rfl rfl)
theorem dX9_gap_64 : decode cX9_gap 64 = .ok (.aload_n 0, 1) := dk_42 (dk_at dksX9_gap_2 16 rfl rfl)
theorem dX9_gap_65 : decode cX9_gap 65 = .ok (.iload_n 3, 1) := dk_29 (dk_at dksX9_gap_2 17 rfl rfl)
theorem dX9_gap_66 : decode cX9_gap 66 = .ok (.invokevirtual 362, 3) := dk_182 1 106 (dk_at dksX9_gap_2 18 rfl rfl)
theorem dX9_gap_69 : decode cX9_gap 69 = .ok (.isub, 1) := dk_100 (dk_at dksX9_gap_2 21 rfl rfl)
theorem dX9_gap_70 : decode cX9_gap 70 = .ok (.istore_n 1, 1) := dk_60 (dk_at dksX9_gap_2 22 rfl rfl)
theorem dX9_gap_71 : decode cX9_gap 71 = .ok (.iload_n 2, 1) := dk_28 (dk_at dksX9_gap_2 23 rfl rfl)
theorem dX9_gap_72 : decode cX9_gap 72 = .ok (.aload_n 0, 1) := dk_42 (dk_at dksX9_gap_3 0 rfl rfl)
theorem dX9_gap_73 : decode cX9_gap 73 = .ok (.iload_n 3, 1) := dk_29 (dk_at dksX9_gap_3 1 rfl rfl)
theorem dX9_gap_74 : decode cX9_gap 74 = .ok (.invokevirtual 125, 3) := dk_182 0 125 (dk_at dksX9_gap_3 2 rfl rfl)
theorem dX9_gap_77 : decode cX9_gap 77 = .ok (.ifCond .eq 17, 3) := dk_153 0 17 (dk_at dksX9_gap_3 5 rfl rfl)
theorem dX9_gap_80 : decode cX9_gap 80 = .ok (.aload_n 0, 1) := dk_42 (dk_at dksX9_gap_3 8 rfl rfl)
theorem dX9_gap_81 : decode cX9_gap 81 = .ok (.iload_n 3, 1) := dk_29 (dk_at dksX9_gap_3 9 rfl rfl)
theorem dX9_gap_82 : decode cX9_gap 82 = .ok (.invokevirtual 362, 3) := dk_182 1 106 (dk_at dksX9_gap_3 10 rfl rfl)
theorem dX9_gap_85 : decode cX9_gap 85 = .ok (.aload_n 0, 1) := dk_42 (dk_at dksX9_gap_3 13 rfl rfl)
theorem dX9_gap_86 : decode cX9_gap 86 = .ok (.iload_n 3, 1) := dk_29 (dk_at dksX9_gap_3 14 rfl rfl)
theorem dX9_gap_87 : decode cX9_gap 87 = .ok (.invokevirtual 359, 3) := dk_182 1 103 (dk_at dksX9_gap_3 15 rfl rfl)
theorem dX9_gap_90 : decode cX9_gap 90 = .ok (.iadd, 1) := dk_96 (dk_at dksX9_gap_3 18 rfl rfl)
theorem dX9_gap_91 : decode cX9_gap 91 = .ok (.goto 4, 3) := dk_167 0 4 (dk_at dksX9_gap_3 19 rfl rfl)
theorem dX9_gap_94 : decode cX9_gap 94 = .ok (.iconst 0, 1) := dk_3 (dk_at dksX9_gap_3 22 rfl rfl)
theorem dX9_gap_95 : decode cX9_gap 95 = .ok (.iadd, 1) := dk_96 (dk_at dksX9_gap_3 23 rfl rfl)
theorem dX9_gap_96 : decode cX9_gap 96 = .ok (.istore_n 2, 1) := dk_61 (dk_at dksX9_gap_4 0 rfl rfl)
theorem dX9_gap_97 : decode cX9_gap 97 = .ok (.iinc 3 1, 3) := dk_132 3 1 (dk_at dksX9_gap_4 1 rfl rfl)
theorem dX9_gap_100 : decode cX9_gap 100 = .ok (.goto (-45), 3) := dk_167 255 211 (dk_at dksX9_gap_4 4 rfl rfl)
theorem dX9_gap_103 : decode cX9_gap 103 = .ok (.iconst 0, 1) := dk_3 (dk_at dksX9_gap_4 7 rfl rfl)
theorem dX9_gap_104 : decode cX9_gap 104 = .ok (.istore_n 3, 1) := dk_62 (dk_at dksX9_gap_4 8 rfl rfl)
theorem dX9_gap_105 : decode cX9_gap 105 = .ok (.iload_n 3, 1) := dk_29 (dk_at dksX9_gap_4 9 rfl rfl)
theorem dX9_gap_106 : decode cX9_gap 106 = .ok (.aload_n 0, 1) := dk_42 (dk_at dksX9_gap_4 10 rfl rfl)
theorem dX9_gap_107 : decode cX9_gap 107 = .ok (.getfield 7, 3) := dk_180 0 7 (dk_at dksX9_gap_4 11 rfl rfl)
theorem dX9_gap_110 : decode cX9_gap 110 = .ok (.iconst 5, 1) := dk_8 (dk_at dksX9_gap_4 14 rfl rfl)
theorem dX9_gap_111 : decode cX9_gap 111 = .ok (.iaload, 1) := dk_46 (dk_at dksX9_gap_4 15 rfl rfl)
theorem dX9_gap_112 : decode cX9_gap 112 = .ok (.if_icmp .ge 31, 3) := dk_162 0 31 (dk_at dksX9_gap_4 16 rfl rfl)
theorem dX9_gap_115 : decode cX9_gap 115 = .ok (.iload_n 2, 1) := dk_28 (dk_at dksX9_gap_4 19 rfl rfl)
theorem dX9_gap_116 : decode cX9_gap 116 = .ok (.aload_n 0, 1) := dk_42 (dk_at dksX9_gap_4 20 rfl rfl)
theorem dX9_gap_117 : decode cX9_gap 117 = .ok (.iload_n 3, 1) := dk_29 (dk_at dksX9_gap_4 21 rfl rfl)
theorem dX9_gap_118 : decode cX9_gap 118 = .ok (.invokevirtual 377, 3) := dk_182 1 121 (dk_at dksX9_gap_5 0 rfl rfl)
theorem dX9_gap_121 : decode cX9_gap 121 = .ok (.aload_n 0, 1) := dk_42 (dk_at dksX9_gap_5 3 rfl rfl)
theorem dX9_gap_122 : decode cX9_gap 122 = .ok (.getfield 7, 3) := dk_180 0 7 (dk_at dksX9_gap_5 4 rfl rfl)
theorem dX9_gap_125 : decode cX9_gap 125 = .ok (.iconst 2, 1) := dk_5 (dk_at dksX9_gap_5 7 rfl rfl)
theorem dX9_gap_126 : decode cX9_gap 126 = .ok (.iaload, 1) := dk_46 (dk_at dksX9_gap_5 8 rfl rfl)
theorem dX9_gap_127 : decode cX9_gap 127 = .ok (.if_icmp .le 7, 3) := dk_164 0 7 (dk_at dksX9_gap_5 9 rfl rfl)
theorem dX9_gap_130 : decode cX9_gap 130 = .ok (.iconst 1, 1) := dk_4 (dk_at dksX9_gap_5 12 rfl rfl)
theorem dX9_gap_131 : decode cX9_gap 131 = .ok (.goto 4, 3) := dk_167 0 4 (dk_at dksX9_gap_5 13 rfl rfl)
theorem dX9_gap_134 : decode cX9_gap 134 = .ok (.iconst 0, 1) := dk_3 (dk_at dksX9_gap_5 16 rfl rfl)
theorem dX9_gap_135 : decode cX9_gap 135 = .ok (.iadd, 1) := dk_96 (dk_at dksX9_gap_5 17 rfl rfl)
theorem dX9_gap_136 : decode cX9_gap 136 = .ok (.istore_n 2, 1) := dk_61 (dk_at dksX9_gap_5 18 rfl rfl)
theorem dX9_gap_137 : decode cX9_gap 137 = .ok (.iinc 3 1, 3) := dk_132 3 1 (dk_at dksX9_gap_5 19 rfl rfl)
theorem dX9_gap_140 : decode cX9_gap 140 = .ok (.goto (-35), 3) := dk_167 255 221 (dk_at dksX9_gap_6 0 rfl rfl)
theorem dX9_gap_143 : decode cX9_gap 143 = .ok (.iload_n 1, 1) := dk_27 (dk_at dksX9_gap_6 3 rfl rfl)
theorem dX9_gap_144 : decode cX9_gap 144 = .ok (.invokestatic 96, 3) := dk_184 0 96 (dk_at dksX9_gap_6 4 rfl rfl)
theorem dX9_gap_147 : decode cX9_gap 147 = .ok (.iload_n 2, 1) := dk_28 (dk_at dksX9_gap_6 7 rfl rfl)
theorem dX9_gap_148 : decode cX9_gap 148 = .ok (.iadd, 1) := dk_96 (dk_at dksX9_gap_6 8 rfl rfl)
theorem dX9_gap_149 : decode cX9_gap 149 = .ok (.ireturn, 1) := dk_172 (dk_at dksX9_gap_6 9 rfl rfl)
abbrev cX9_share : ByteArray := prog_16_method_103_code
def yX9_share : MethodName := ⟨RX9, "share", "()F"⟩
def dkwX9_share_1 : List UInt8 := [134, 42, 180, 0, 7, 16, 6, 46, 134, 110, 174]
abbrev dktX9_share_1 : List UInt8 := dkwX9_share_1 ++ []
def dkwX9_share_0 : List UInt8 := [42, 3, 181, 0, 77, 42, 180, 0, 7, 16, 6, 46, 154, 0, 7, 12, 167, 0, 18, 42, 5, 182, 1, 88]
abbrev dktX9_share_0 : List UInt8 := dkwX9_share_0 ++ dktX9_share_1
theorem dksX9_share_0 : cX9_share.data.toList.drop 0 = dktX9_share_0 := by decide +kernel
theorem dksX9_share_1 : cX9_share.data.toList.drop 24 = dktX9_share_1 := dk_seg dksX9_share_0 24 rfl rfl
theorem dX9_share_0 : decode cX9_share 0 = .ok (.aload_n 0, 1) := dk_42 (dk_at dksX9_share_0 0 rfl rfl)
theorem dX9_share_1 : decode cX9_share 1 = .ok (.iconst 0, 1) := dk_3 (dk_at dksX9_share_0 1 rfl rfl)
theorem dX9_share_2 : decode cX9_share 2 = .ok (.putfield 77, 3) := dk_181 0 77 (dk_at dksX9_share_0 2 rfl rfl)
theorem dX9_share_5 : decode cX9_share 5 = .ok (.aload_n 0, 1) := dk_42 (dk_at dksX9_share_0 5 rfl rfl)
theorem dX9_share_6 : decode cX9_share 6 = .ok (.getfield 7, 3) := dk_180 0 7 (dk_at dksX9_share_0 6 rfl rfl)
theorem dX9_share_9 : decode cX9_share 9 = .ok (.bipush 6, 2) := dk_16 6 (dk_at dksX9_share_0 9 rfl rfl)
theorem dX9_share_11 : decode cX9_share 11 = .ok (.iaload, 1) := dk_46 (dk_at dksX9_share_0 11 rfl rfl)
theorem dX9_share_12 : decode cX9_share 12 = .ok (.ifCond .ne 7, 3) := dk_154 0 7 (dk_at dksX9_share_0 12 rfl rfl)
theorem dX9_share_15 : decode cX9_share 15 = .ok (.fconst 1, 1) := dk_12 (dk_at dksX9_share_0 15 rfl rfl)
theorem dX9_share_16 : decode cX9_share 16 = .ok (.goto 18, 3) := dk_167 0 18 (dk_at dksX9_share_0 16 rfl rfl)
theorem dX9_share_19 : decode cX9_share 19 = .ok (.aload_n 0, 1) := dk_42 (dk_at dksX9_share_0 19 rfl rfl)
theorem dX9_share_20 : decode cX9_share 20 = .ok (.iconst 2, 1) := dk_5 (dk_at dksX9_share_0 20 rfl rfl)
theorem dX9_share_21 : decode cX9_share 21 = .ok (.invokevirtual 344, 3) := dk_182 1 88 (dk_at dksX9_share_0 21 rfl rfl)
theorem dX9_share_24 : decode cX9_share 24 = .ok (.i2f, 1) := dk_134 (dk_at dksX9_share_1 0 rfl rfl)
theorem dX9_share_25 : decode cX9_share 25 = .ok (.aload_n 0, 1) := dk_42 (dk_at dksX9_share_1 1 rfl rfl)
theorem dX9_share_26 : decode cX9_share 26 = .ok (.getfield 7, 3) := dk_180 0 7 (dk_at dksX9_share_1 2 rfl rfl)
theorem dX9_share_29 : decode cX9_share 29 = .ok (.bipush 6, 2) := dk_16 6 (dk_at dksX9_share_1 5 rfl rfl)
theorem dX9_share_31 : decode cX9_share 31 = .ok (.iaload, 1) := dk_46 (dk_at dksX9_share_1 7 rfl rfl)
theorem dX9_share_32 : decode cX9_share 32 = .ok (.i2f, 1) := dk_134 (dk_at dksX9_share_1 8 rfl rfl)
theorem dX9_share_33 : decode cX9_share 33 = .ok (.fdiv, 1) := dk_110 (dk_at dksX9_share_1 9 rfl rfl)
theorem dX9_share_34 : decode cX9_share 34 = .ok (.freturn, 1) := dk_174 (dk_at dksX9_share_1 10 rfl rfl)
abbrev cX9_meanMist : ByteArray := prog_16_method_104_code
def yX9_meanMist : MethodName := ⟨RX9, "meanMist", "()D"⟩
def dkwX9_meanMist_2 : List UInt8 := [42, 182, 1, 85, 100, 61, 28, 154, 0, 7, 14, 167, 0, 8, 27, 135, 28, 135, 111, 175]
abbrev dktX9_meanMist_2 : List UInt8 := dkwX9_meanMist_2 ++ []
def dkwX9_meanMist_1 : List UInt8 := [153, 0, 7, 3, 167, 0, 8, 42, 28, 182, 0, 132, 96, 60, 132, 2, 1, 167, 255, 225, 42, 182, 0, 84]
abbrev dktX9_meanMist_1 : List UInt8 := dkwX9_meanMist_1 ++ dktX9_meanMist_2
def dkwX9_meanMist_0 : List UInt8 := [42, 3, 181, 0, 77, 3, 60, 3, 61, 28, 42, 182, 0, 84, 162, 0, 29, 27, 42, 28, 182, 0, 125]
abbrev dktX9_meanMist_0 : List UInt8 := dkwX9_meanMist_0 ++ dktX9_meanMist_1
theorem dksX9_meanMist_0 : cX9_meanMist.data.toList.drop 0 = dktX9_meanMist_0 := by decide +kernel
theorem dksX9_meanMist_1 : cX9_meanMist.data.toList.drop 23 = dktX9_meanMist_1 := dk_seg dksX9_meanMist_0 23 rfl rfl
theorem dksX9_meanMist_2 : cX9_meanMist.data.toList.drop 47 = dktX9_meanMist_2 := dk_seg dksX9_meanMist_1 24 rfl rfl
theorem dX9_meanMist_0 : decode cX9_meanMist 0 = .ok (.aload_n 0, 1) := dk_42 (dk_at dksX9_meanMist_0 0 rfl rfl)
theorem dX9_meanMist_1 : decode cX9_meanMist 1 = .ok (.iconst 0, 1) := dk_3 (dk_at dksX9_meanMist_0 1 rfl rfl)
theorem dX9_meanMist_2 : decode cX9_meanMist 2 = .ok (.putfield 77, 3) := dk_181 0 77 (dk_at dksX9_meanMist_0 2 rfl rfl)
theorem dX9_meanMist_5 : decode cX9_meanMist 5 = .ok (.iconst 0, 1) := dk_3 (dk_at dksX9_meanMist_0 5 rfl rfl)
theorem dX9_meanMist_6 : decode cX9_meanMist 6 = .ok (.istore_n 1, 1) := dk_60 (dk_at dksX9_meanMist_0 6 rfl rfl)
theorem dX9_meanMist_7 : decode cX9_meanMist 7 = .ok (.iconst 0, 1) := dk_3 (dk_at dksX9_meanMist_0 7 rfl rfl)
theorem dX9_meanMist_8 : decode cX9_meanMist 8 = .ok (.istore_n 2, 1) := dk_61 (dk_at dksX9_meanMist_0 8 rfl rfl)
theorem dX9_meanMist_9 : decode cX9_meanMist 9 = .ok (.iload_n 2, 1) := dk_28 (dk_at dksX9_meanMist_0 9 rfl rfl)
theorem dX9_meanMist_10 : decode cX9_meanMist 10 = .ok (.aload_n 0, 1) := dk_42 (dk_at dksX9_meanMist_0 10 rfl rfl)
theorem dX9_meanMist_11 : decode cX9_meanMist 11 = .ok (.invokevirtual 84, 3) := dk_182 0 84 (dk_at dksX9_meanMist_0 11 rfl rfl)
theorem dX9_meanMist_14 : decode cX9_meanMist 14 = .ok (.if_icmp .ge 29, 3) := dk_162 0 29 (dk_at dksX9_meanMist_0 14 rfl rfl)
theorem dX9_meanMist_17 : decode cX9_meanMist 17 = .ok (.iload_n 1, 1) := dk_27 (dk_at dksX9_meanMist_0 17 rfl rfl)
theorem dX9_meanMist_18 : decode cX9_meanMist 18 = .ok (.aload_n 0, 1) := dk_42 (dk_at dksX9_meanMist_0 18 rfl rfl)
theorem dX9_meanMist_19 : decode cX9_meanMist 19 = .ok (.iload_n 2, 1) := dk_28 (dk_at dksX9_meanMist_0 19 rfl rfl)
theorem dX9_meanMist_20 : decode cX9_meanMist 20 = .ok (.invokevirtual 125, 3) := dk_182 0 125 (dk_at dksX9_meanMist_0 20 rfl rfl)
theorem dX9_meanMist_23 : decode cX9_meanMist 23 = .ok (.ifCond .eq 7, 3) := dk_153 0 7 (dk_at dksX9_meanMist_1 0 rfl rfl)
theorem dX9_meanMist_26 : decode cX9_meanMist 26 = .ok (.iconst 0, 1) := dk_3 (dk_at dksX9_meanMist_1 3 rfl rfl)
theorem dX9_meanMist_27 : decode cX9_meanMist 27 = .ok (.goto 8, 3) := dk_167 0 8 (dk_at dksX9_meanMist_1 4 rfl rfl)
theorem dX9_meanMist_30 : decode cX9_meanMist 30 = .ok (.aload_n 0, 1) := dk_42 (dk_at dksX9_meanMist_1 7 rfl rfl)
theorem dX9_meanMist_31 : decode cX9_meanMist 31 = .ok (.iload_n 2, 1) := dk_28 (dk_at dksX9_meanMist_1 8 rfl rfl)
theorem dX9_meanMist_32 : decode cX9_meanMist 32 = .ok (.invokevirtual 132, 3) := dk_182 0 132 (dk_at dksX9_meanMist_1 9 rfl rfl)
theorem dX9_meanMist_35 : decode cX9_meanMist 35 = .ok (.iadd, 1) := dk_96 (dk_at dksX9_meanMist_1 12 rfl rfl)
theorem dX9_meanMist_36 : decode cX9_meanMist 36 = .ok (.istore_n 1, 1) := dk_60 (dk_at dksX9_meanMist_1 13 rfl rfl)
theorem dX9_meanMist_37 : decode cX9_meanMist 37 = .ok (.iinc 2 1, 3) := dk_132 2 1 (dk_at dksX9_meanMist_1 14 rfl rfl)
theorem dX9_meanMist_40 : decode cX9_meanMist 40 = .ok (.goto (-31), 3) := dk_167 255 225 (dk_at dksX9_meanMist_1 17 rfl rfl)
theorem dX9_meanMist_43 : decode cX9_meanMist 43 = .ok (.aload_n 0, 1) := dk_42 (dk_at dksX9_meanMist_1 20 rfl rfl)
theorem dX9_meanMist_44 : decode cX9_meanMist 44 = .ok (.invokevirtual 84, 3) := dk_182 0 84 (dk_at dksX9_meanMist_1 21 rfl rfl)
theorem dX9_meanMist_47 : decode cX9_meanMist 47 = .ok (.aload_n 0, 1) := dk_42 (dk_at dksX9_meanMist_2 0 rfl rfl)
theorem dX9_meanMist_48 : decode cX9_meanMist 48 = .ok (.invokevirtual 341, 3) := dk_182 1 85 (dk_at dksX9_meanMist_2 1 rfl rfl)
theorem dX9_meanMist_51 : decode cX9_meanMist 51 = .ok (.isub, 1) := dk_100 (dk_at dksX9_meanMist_2 4 rfl rfl)
theorem dX9_meanMist_52 : decode cX9_meanMist 52 = .ok (.istore_n 2, 1) := dk_61 (dk_at dksX9_meanMist_2 5 rfl rfl)
theorem dX9_meanMist_53 : decode cX9_meanMist 53 = .ok (.iload_n 2, 1) := dk_28 (dk_at dksX9_meanMist_2 6 rfl rfl)
theorem dX9_meanMist_54 : decode cX9_meanMist 54 = .ok (.ifCond .ne 7, 3) := dk_154 0 7 (dk_at dksX9_meanMist_2 7 rfl rfl)
theorem dX9_meanMist_57 : decode cX9_meanMist 57 = .ok (.dconst 0, 1) := dk_14 (dk_at dksX9_meanMist_2 10 rfl rfl)
theorem dX9_meanMist_58 : decode cX9_meanMist 58 = .ok (.goto 8, 3) := dk_167 0 8 (dk_at dksX9_meanMist_2 11 rfl rfl)
theorem dX9_meanMist_61 : decode cX9_meanMist 61 = .ok (.iload_n 1, 1) := dk_27 (dk_at dksX9_meanMist_2 14 rfl rfl)
theorem dX9_meanMist_62 : decode cX9_meanMist 62 = .ok (.i2d, 1) := dk_135 (dk_at dksX9_meanMist_2 15 rfl rfl)
theorem dX9_meanMist_63 : decode cX9_meanMist 63 = .ok (.iload_n 2, 1) := dk_28 (dk_at dksX9_meanMist_2 16 rfl rfl)
theorem dX9_meanMist_64 : decode cX9_meanMist 64 = .ok (.i2d, 1) := dk_135 (dk_at dksX9_meanMist_2 17 rfl rfl)
theorem dX9_meanMist_65 : decode cX9_meanMist 65 = .ok (.ddiv, 1) := dk_111 (dk_at dksX9_meanMist_2 18 rfl rfl)
theorem dX9_meanMist_66 : decode cX9_meanMist 66 = .ok (.dreturn, 1) := dk_175 (dk_at dksX9_meanMist_2 19 rfl rfl)
abbrev cX9_ifSeen : ByteArray := prog_16_method_109_code
def yX9_ifSeen : MethodName := ⟨RX9, "ifSeen", "(II)Z"⟩
def dkwX9_ifSeen_2 : List UInt8 := [4, 160, 0, 7, 4, 167, 0, 4, 3, 172]
abbrev dktX9_ifSeen_2 : List UInt8 := dkwX9_ifSeen_2 ++ []
def dkwX9_ifSeen_1 : List UInt8 := [154, 0, 10, 42, 5, 181, 0, 77, 3, 172, 42, 182, 1, 148, 42, 42, 27, 28, 182, 1, 151, 182, 1, 154]
abbrev dktX9_ifSeen_1 : List UInt8 := dkwX9_ifSeen_1 ++ dktX9_ifSeen_2
def dkwX9_ifSeen_0 : List UInt8 := [42, 3, 181, 0, 77, 42, 27, 182, 1, 97, 154, 0, 10, 42, 4, 181, 0, 77, 3, 172, 28, 184, 1, 145]
abbrev dktX9_ifSeen_0 : List UInt8 := dkwX9_ifSeen_0 ++ dktX9_ifSeen_1
theorem dksX9_ifSeen_0 : cX9_ifSeen.data.toList.drop 0 = dktX9_ifSeen_0 := by decide +kernel
theorem dksX9_ifSeen_1 : cX9_ifSeen.data.toList.drop 24 = dktX9_ifSeen_1 := dk_seg dksX9_ifSeen_0 24 rfl rfl
theorem dksX9_ifSeen_2 : cX9_ifSeen.data.toList.drop 48 = dktX9_ifSeen_2 := dk_seg dksX9_ifSeen_1 24 rfl rfl
theorem dX9_ifSeen_0 : decode cX9_ifSeen 0 = .ok (.aload_n 0, 1) := dk_42 (dk_at dksX9_ifSeen_0 0 rfl rfl)
theorem dX9_ifSeen_1 : decode cX9_ifSeen 1 = .ok (.iconst 0, 1) := dk_3 (dk_at dksX9_ifSeen_0 1 rfl rfl)
theorem dX9_ifSeen_2 : decode cX9_ifSeen 2 = .ok (.putfield 77, 3) := dk_181 0 77 (dk_at dksX9_ifSeen_0 2 rfl rfl)
theorem dX9_ifSeen_5 : decode cX9_ifSeen 5 = .ok (.aload_n 0, 1) := dk_42 (dk_at dksX9_ifSeen_0 5 rfl rfl)
theorem dX9_ifSeen_6 : decode cX9_ifSeen 6 = .ok (.iload_n 1, 1) := dk_27 (dk_at dksX9_ifSeen_0 6 rfl rfl)
theorem dX9_ifSeen_7 : decode cX9_ifSeen 7 = .ok (.invokevirtual 353, 3) := dk_182 1 97 (dk_at dksX9_ifSeen_0 7 rfl rfl)
theorem dX9_ifSeen_10 : decode cX9_ifSeen 10 = .ok (.ifCond .ne 10, 3) := dk_154 0 10 (dk_at dksX9_ifSeen_0 10 rfl rfl)
theorem dX9_ifSeen_13 : decode cX9_ifSeen 13 = .ok (.aload_n 0, 1) := dk_42 (dk_at dksX9_ifSeen_0 13 rfl rfl)
theorem dX9_ifSeen_14 : decode cX9_ifSeen 14 = .ok (.iconst 1, 1) := dk_4 (dk_at dksX9_ifSeen_0 14 rfl rfl)
theorem dX9_ifSeen_15 : decode cX9_ifSeen 15 = .ok (.putfield 77, 3) := dk_181 0 77 (dk_at dksX9_ifSeen_0 15 rfl rfl)
theorem dX9_ifSeen_18 : decode cX9_ifSeen 18 = .ok (.iconst 0, 1) := dk_3 (dk_at dksX9_ifSeen_0 18 rfl rfl)
theorem dX9_ifSeen_19 : decode cX9_ifSeen 19 = .ok (.ireturn, 1) := dk_172 (dk_at dksX9_ifSeen_0 19 rfl rfl)
theorem dX9_ifSeen_20 : decode cX9_ifSeen 20 = .ok (.iload_n 2, 1) := dk_28 (dk_at dksX9_ifSeen_0 20 rfl rfl)
theorem dX9_ifSeen_21 : decode cX9_ifSeen 21 = .ok (.invokestatic 401, 3) := dk_184 1 145 (dk_at dksX9_ifSeen_0 21 rfl rfl)
theorem dX9_ifSeen_24 : decode cX9_ifSeen 24 = .ok (.ifCond .ne 10, 3) := dk_154 0 10 (dk_at dksX9_ifSeen_1 0 rfl rfl)
theorem dX9_ifSeen_27 : decode cX9_ifSeen 27 = .ok (.aload_n 0, 1) := dk_42 (dk_at dksX9_ifSeen_1 3 rfl rfl)
theorem dX9_ifSeen_28 : decode cX9_ifSeen 28 = .ok (.iconst 2, 1) := dk_5 (dk_at dksX9_ifSeen_1 4 rfl rfl)
theorem dX9_ifSeen_29 : decode cX9_ifSeen 29 = .ok (.putfield 77, 3) := dk_181 0 77 (dk_at dksX9_ifSeen_1 5 rfl rfl)
theorem dX9_ifSeen_32 : decode cX9_ifSeen 32 = .ok (.iconst 0, 1) := dk_3 (dk_at dksX9_ifSeen_1 8 rfl rfl)
theorem dX9_ifSeen_33 : decode cX9_ifSeen 33 = .ok (.ireturn, 1) := dk_172 (dk_at dksX9_ifSeen_1 9 rfl rfl)
theorem dX9_ifSeen_34 : decode cX9_ifSeen 34 = .ok (.aload_n 0, 1) := dk_42 (dk_at dksX9_ifSeen_1 10 rfl rfl)
theorem dX9_ifSeen_35 : decode cX9_ifSeen 35 = .ok (.invokevirtual 404, 3) := dk_182 1 148 (dk_at dksX9_ifSeen_1 11 rfl rfl)
theorem dX9_ifSeen_38 : decode cX9_ifSeen 38 = .ok (.aload_n 0, 1) := dk_42 (dk_at dksX9_ifSeen_1 14 rfl rfl)
theorem dX9_ifSeen_39 : decode cX9_ifSeen 39 = .ok (.aload_n 0, 1) := dk_42 (dk_at dksX9_ifSeen_1 15 rfl rfl)
theorem dX9_ifSeen_40 : decode cX9_ifSeen 40 = .ok (.iload_n 1, 1) := dk_27 (dk_at dksX9_ifSeen_1 16 rfl rfl)
theorem dX9_ifSeen_41 : decode cX9_ifSeen 41 = .ok (.iload_n 2, 1) := dk_28 (dk_at dksX9_ifSeen_1 17 rfl rfl)
theorem dX9_ifSeen_42 : decode cX9_ifSeen 42 = .ok (.invokevirtual 407, 3) := dk_182 1 151 (dk_at dksX9_ifSeen_1 18 rfl rfl)
theorem dX9_ifSeen_45 : decode cX9_ifSeen 45 = .ok (.invokevirtual 410, 3) := dk_182 1 154 (dk_at dksX9_ifSeen_1 21 rfl rfl)
theorem dX9_ifSeen_48 : decode cX9_ifSeen 48 = .ok (.iconst 1, 1) := dk_4 (dk_at dksX9_ifSeen_2 0 rfl rfl)
theorem dX9_ifSeen_49 : decode cX9_ifSeen 49 = .ok (.if_icmp .ne 7, 3) := dk_160 0 7 (dk_at dksX9_ifSeen_2 1 rfl rfl)
theorem dX9_ifSeen_52 : decode cX9_ifSeen 52 = .ok (.iconst 1, 1) := dk_4 (dk_at dksX9_ifSeen_2 4 rfl rfl)
theorem dX9_ifSeen_53 : decode cX9_ifSeen 53 = .ok (.goto 4, 3) := dk_167 0 4 (dk_at dksX9_ifSeen_2 5 rfl rfl)
theorem dX9_ifSeen_56 : decode cX9_ifSeen 56 = .ok (.iconst 0, 1) := dk_3 (dk_at dksX9_ifSeen_2 8 rfl rfl)
theorem dX9_ifSeen_57 : decode cX9_ifSeen 57 = .ok (.ireturn, 1) := dk_172 (dk_at dksX9_ifSeen_2 9 rfl rfl)
abbrev cX9_isAhead : ByteArray := prog_16_method_107_code
def yX9_isAhead : MethodName := ⟨RX9, "isAhead", "(I)Z"⟩
def dkwX9_isAhead_0 : List UInt8 := [26, 3, 17, 0, 200, 184, 0, 88, 172]
abbrev dktX9_isAhead_0 : List UInt8 := dkwX9_isAhead_0 ++ []
theorem dksX9_isAhead_0 : cX9_isAhead.data.toList.drop 0 = dktX9_isAhead_0 := by decide +kernel
theorem dX9_isAhead_0 : decode cX9_isAhead 0 = .ok (.iload_n 0, 1) := dk_26 (dk_at dksX9_isAhead_0 0 rfl rfl)
theorem dX9_isAhead_1 : decode cX9_isAhead 1 = .ok (.iconst 0, 1) := dk_3 (dk_at dksX9_isAhead_0 1 rfl rfl)
theorem dX9_isAhead_2 : decode cX9_isAhead 2 = .ok (.sipush 200, 3) := dk_17 0 200 (dk_at dksX9_isAhead_0 2 rfl rfl)
theorem dX9_isAhead_5 : decode cX9_isAhead 5 = .ok (.invokestatic 88, 3) := dk_184 0 88 (dk_at dksX9_isAhead_0 5 rfl rfl)
theorem dX9_isAhead_8 : decode cX9_isAhead 8 = .ok (.ireturn, 1) := dk_172 (dk_at dksX9_isAhead_0 8 rfl rfl)
abbrev cX9_goAside : ByteArray := prog_16_method_105_code
def yX9_goAside : MethodName := ⟨RX9, "goAside", "()V"⟩
def dkwX9_goAside_0 : List UInt8 := [42, 180, 0, 7, 3, 42, 180, 0, 13, 3, 184, 1, 26, 177]
abbrev dktX9_goAside_0 : List UInt8 := dkwX9_goAside_0 ++ []
theorem dksX9_goAside_0 : cX9_goAside.data.toList.drop 0 = dktX9_goAside_0 := by decide +kernel
theorem dX9_goAside_0 : decode cX9_goAside 0 = .ok (.aload_n 0, 1) := dk_42 (dk_at dksX9_goAside_0 0 rfl rfl)
theorem dX9_goAside_1 : decode cX9_goAside 1 = .ok (.getfield 7, 3) := dk_180 0 7 (dk_at dksX9_goAside_0 1 rfl rfl)
theorem dX9_goAside_4 : decode cX9_goAside 4 = .ok (.iconst 0, 1) := dk_3 (dk_at dksX9_goAside_0 4 rfl rfl)
theorem dX9_goAside_5 : decode cX9_goAside 5 = .ok (.aload_n 0, 1) := dk_42 (dk_at dksX9_goAside_0 5 rfl rfl)
theorem dX9_goAside_6 : decode cX9_goAside 6 = .ok (.getfield 13, 3) := dk_180 0 13 (dk_at dksX9_goAside_0 6 rfl rfl)
theorem dX9_goAside_9 : decode cX9_goAside 9 = .ok (.iconst 0, 1) := dk_3 (dk_at dksX9_goAside_0 9 rfl rfl)
theorem dX9_goAside_10 : decode cX9_goAside 10 = .ok (.invokestatic 282, 3) := dk_184 1 26 (dk_at dksX9_goAside_0 10 rfl rfl)
theorem dX9_goAside_13 : decode cX9_goAside 13 = .ok (.return_, 1) := dk_177 (dk_at dksX9_goAside_0 13 rfl rfl)
abbrev cX9_seenBehind : ByteArray := prog_16_method_108_code
def yX9_seenBehind : MethodName := ⟨RX9, "seenBehind", "(II)I"⟩
def dkwX9_seenBehind_1 : List UInt8 := [153, 0, 7, 4, 167, 0, 4, 3, 172]
abbrev dktX9_seenBehind_1 : List UInt8 := dkwX9_seenBehind_1 ++ []
def dkwX9_seenBehind_0 : List UInt8 := [3, 62, 29, 28, 162, 0, 13, 42, 182, 0, 169, 132, 3, 1, 167, 255, 244, 42, 27, 182, 1, 124]
abbrev dktX9_seenBehind_0 : List UInt8 := dkwX9_seenBehind_0 ++ dktX9_seenBehind_1
theorem dksX9_seenBehind_0 : cX9_seenBehind.data.toList.drop 0 = dktX9_seenBehind_0 := by decide +kernel
theorem dksX9_seenBehind_1 : cX9_seenBehind.data.toList.drop 22 = dktX9_seenBehind_1 := dk_seg dksX9_seenBehind_0 22 rfl rfl
theorem dX9_seenBehind_0 : decode cX9_seenBehind 0 = .ok (.iconst 0, 1) := dk_3 (dk_at dksX9_seenBehind_0 0 rfl rfl)
theorem dX9_seenBehind_1 : decode cX9_seenBehind 1 = .ok (.istore_n 3, 1) := dk_62 (dk_at dksX9_seenBehind_0 1 rfl rfl)
theorem dX9_seenBehind_2 : decode cX9_seenBehind 2 = .ok (.iload_n 3, 1) := dk_29 (dk_at dksX9_seenBehind_0 2 rfl rfl)
theorem dX9_seenBehind_3 : decode cX9_seenBehind 3 = .ok (.iload_n 2, 1) := dk_28 (dk_at dksX9_seenBehind_0 3 rfl rfl)
theorem dX9_seenBehind_4 : decode cX9_seenBehind 4 = .ok (.if_icmp .ge 13, 3) := dk_162 0 13 (dk_at dksX9_seenBehind_0 4 rfl rfl)
theorem dX9_seenBehind_7 : decode cX9_seenBehind 7 = .ok (.aload_n 0, 1) := dk_42 (dk_at dksX9_seenBehind_0 7 rfl rfl)
theorem dX9_seenBehind_8 : decode cX9_seenBehind 8 = .ok (.invokevirtual 169, 3) := dk_182 0 169 (dk_at dksX9_seenBehind_0 8 rfl rfl)
theorem dX9_seenBehind_11 : decode cX9_seenBehind 11 = .ok (.iinc 3 1, 3) := dk_132 3 1 (dk_at dksX9_seenBehind_0 11 rfl rfl)
theorem dX9_seenBehind_14 : decode cX9_seenBehind 14 = .ok (.goto (-12), 3) := dk_167 255 244 (dk_at dksX9_seenBehind_0 14 rfl rfl)
theorem dX9_seenBehind_17 : decode cX9_seenBehind 17 = .ok (.aload_n 0, 1) := dk_42 (dk_at dksX9_seenBehind_0 17 rfl rfl)
theorem dX9_seenBehind_18 : decode cX9_seenBehind 18 = .ok (.iload_n 1, 1) := dk_27 (dk_at dksX9_seenBehind_0 18 rfl rfl)
theorem dX9_seenBehind_19 : decode cX9_seenBehind 19 = .ok (.invokevirtual 380, 3) := dk_182 1 124 (dk_at dksX9_seenBehind_0 19 rfl rfl)
theorem dX9_seenBehind_22 : decode cX9_seenBehind 22 = .ok (.ifCond .eq 7, 3) := dk_153 0 7 (dk_at dksX9_seenBehind_1 0 rfl rfl)
theorem dX9_seenBehind_25 : decode cX9_seenBehind 25 = .ok (.iconst 1, 1) := dk_4 (dk_at dksX9_seenBehind_1 3 rfl rfl)
theorem dX9_seenBehind_26 : decode cX9_seenBehind 26 = .ok (.goto 4, 3) := dk_167 0 4 (dk_at dksX9_seenBehind_1 4 rfl rfl)
theorem dX9_seenBehind_29 : decode cX9_seenBehind 29 = .ok (.iconst 0, 1) := dk_3 (dk_at dksX9_seenBehind_1 7 rfl rfl)
theorem dX9_seenBehind_30 : decode cX9_seenBehind 30 = .ok (.ireturn, 1) := dk_172 (dk_at dksX9_seenBehind_1 8 rfl rfl)
abbrev cX9_comeBack : ByteArray := prog_16_method_106_code
def yX9_comeBack : MethodName := ⟨RX9, "comeBack", "(I)I"⟩
def dkwX9_comeBack_0 : List UInt8 := [42, 180, 0, 13, 3, 42, 180, 0, 7, 3, 184, 1, 26, 27, 172]
abbrev dktX9_comeBack_0 : List UInt8 := dkwX9_comeBack_0 ++ []
theorem dksX9_comeBack_0 : cX9_comeBack.data.toList.drop 0 = dktX9_comeBack_0 := by decide +kernel
theorem dX9_comeBack_0 : decode cX9_comeBack 0 = .ok (.aload_n 0, 1) := dk_42 (dk_at dksX9_comeBack_0 0 rfl rfl)
theorem dX9_comeBack_1 : decode cX9_comeBack 1 = .ok (.getfield 13, 3) := dk_180 0 13 (dk_at dksX9_comeBack_0 1 rfl rfl)
theorem dX9_comeBack_4 : decode cX9_comeBack 4 = .ok (.iconst 0, 1) := dk_3 (dk_at dksX9_comeBack_0 4 rfl rfl)
theorem dX9_comeBack_5 : decode cX9_comeBack 5 = .ok (.aload_n 0, 1) := dk_42 (dk_at dksX9_comeBack_0 5 rfl rfl)
theorem dX9_comeBack_6 : decode cX9_comeBack 6 = .ok (.getfield 7, 3) := dk_180 0 7 (dk_at dksX9_comeBack_0 6 rfl rfl)
theorem dX9_comeBack_9 : decode cX9_comeBack 9 = .ok (.iconst 0, 1) := dk_3 (dk_at dksX9_comeBack_0 9 rfl rfl)
theorem dX9_comeBack_10 : decode cX9_comeBack 10 = .ok (.invokestatic 282, 3) := dk_184 1 26 (dk_at dksX9_comeBack_0 10 rfl rfl)
theorem dX9_comeBack_13 : decode cX9_comeBack 13 = .ok (.iload_n 1, 1) := dk_27 (dk_at dksX9_comeBack_0 13 rfl rfl)
theorem dX9_comeBack_14 : decode cX9_comeBack 14 = .ok (.ireturn, 1) := dk_172 (dk_at dksX9_comeBack_0 14 rfl rfl)
abbrev cX9_seenIn : ByteArray := prog_16_method_111_code
def yX9_seenIn : MethodName := ⟨RX9, "seenIn", "(I)I"⟩
def dkwX9_seenIn_1 : List UInt8 := [42, 27, 182, 1, 157, 182, 1, 154, 172]
abbrev dktX9_seenIn_1 : List UInt8 := dkwX9_seenIn_1 ++ []
def dkwX9_seenIn_0 : List UInt8 := [42, 3, 181, 0, 77, 42, 27, 182, 1, 97, 154, 0, 9, 42, 4, 182, 0, 181, 172, 42, 182, 1, 148, 42]
abbrev dktX9_seenIn_0 : List UInt8 := dkwX9_seenIn_0 ++ dktX9_seenIn_1
theorem dksX9_seenIn_0 : cX9_seenIn.data.toList.drop 0 = dktX9_seenIn_0 := by decide +kernel
theorem dksX9_seenIn_1 : cX9_seenIn.data.toList.drop 24 = dktX9_seenIn_1 := dk_seg dksX9_seenIn_0 24 rfl rfl
theorem dX9_seenIn_0 : decode cX9_seenIn 0 = .ok (.aload_n 0, 1) := dk_42 (dk_at dksX9_seenIn_0 0 rfl rfl)
theorem dX9_seenIn_1 : decode cX9_seenIn 1 = .ok (.iconst 0, 1) := dk_3 (dk_at dksX9_seenIn_0 1 rfl rfl)
theorem dX9_seenIn_2 : decode cX9_seenIn 2 = .ok (.putfield 77, 3) := dk_181 0 77 (dk_at dksX9_seenIn_0 2 rfl rfl)
theorem dX9_seenIn_5 : decode cX9_seenIn 5 = .ok (.aload_n 0, 1) := dk_42 (dk_at dksX9_seenIn_0 5 rfl rfl)
theorem dX9_seenIn_6 : decode cX9_seenIn 6 = .ok (.iload_n 1, 1) := dk_27 (dk_at dksX9_seenIn_0 6 rfl rfl)
theorem dX9_seenIn_7 : decode cX9_seenIn 7 = .ok (.invokevirtual 353, 3) := dk_182 1 97 (dk_at dksX9_seenIn_0 7 rfl rfl)
theorem dX9_seenIn_10 : decode cX9_seenIn 10 = .ok (.ifCond .ne 9, 3) := dk_154 0 9 (dk_at dksX9_seenIn_0 10 rfl rfl)
theorem dX9_seenIn_13 : decode cX9_seenIn 13 = .ok (.aload_n 0, 1) := dk_42 (dk_at dksX9_seenIn_0 13 rfl rfl)
theorem dX9_seenIn_14 : decode cX9_seenIn 14 = .ok (.iconst 1, 1) := dk_4 (dk_at dksX9_seenIn_0 14 rfl rfl)
theorem dX9_seenIn_15 : decode cX9_seenIn 15 = .ok (.invokevirtual 181, 3) := dk_182 0 181 (dk_at dksX9_seenIn_0 15 rfl rfl)
theorem dX9_seenIn_18 : decode cX9_seenIn 18 = .ok (.ireturn, 1) := dk_172 (dk_at dksX9_seenIn_0 18 rfl rfl)
theorem dX9_seenIn_19 : decode cX9_seenIn 19 = .ok (.aload_n 0, 1) := dk_42 (dk_at dksX9_seenIn_0 19 rfl rfl)
theorem dX9_seenIn_20 : decode cX9_seenIn 20 = .ok (.invokevirtual 404, 3) := dk_182 1 148 (dk_at dksX9_seenIn_0 20 rfl rfl)
theorem dX9_seenIn_23 : decode cX9_seenIn 23 = .ok (.aload_n 0, 1) := dk_42 (dk_at dksX9_seenIn_0 23 rfl rfl)
theorem dX9_seenIn_24 : decode cX9_seenIn 24 = .ok (.aload_n 0, 1) := dk_42 (dk_at dksX9_seenIn_1 0 rfl rfl)
theorem dX9_seenIn_25 : decode cX9_seenIn 25 = .ok (.iload_n 1, 1) := dk_27 (dk_at dksX9_seenIn_1 1 rfl rfl)
theorem dX9_seenIn_26 : decode cX9_seenIn 26 = .ok (.invokevirtual 413, 3) := dk_182 1 157 (dk_at dksX9_seenIn_1 2 rfl rfl)
theorem dX9_seenIn_29 : decode cX9_seenIn 29 = .ok (.invokevirtual 410, 3) := dk_182 1 154 (dk_at dksX9_seenIn_1 5 rfl rfl)
theorem dX9_seenIn_32 : decode cX9_seenIn 32 = .ok (.ireturn, 1) := dk_172 (dk_at dksX9_seenIn_1 8 rfl rfl)
abbrev cX9_nextSeen : ByteArray := prog_16_method_110_code
def yX9_nextSeen : MethodName := ⟨RX9, "nextSeen", "(I)I"⟩
def dkwX9_nextSeen_1 : List UInt8 := [132, 2, 1, 167, 255, 232, 2, 172]
abbrev dktX9_nextSeen_1 : List UInt8 := dkwX9_nextSeen_1 ++ []
def dkwX9_nextSeen_0 : List UInt8 := [4, 61, 28, 17, 0, 200, 163, 0, 23, 42, 182, 0, 169, 42, 27, 182, 1, 124, 153, 0, 5, 28, 172]
abbrev dktX9_nextSeen_0 : List UInt8 := dkwX9_nextSeen_0 ++ dktX9_nextSeen_1
theorem dksX9_nextSeen_0 : cX9_nextSeen.data.toList.drop 0 = dktX9_nextSeen_0 := by decide +kernel
theorem dksX9_nextSeen_1 : cX9_nextSeen.data.toList.drop 23 = dktX9_nextSeen_1 := dk_seg dksX9_nextSeen_0 23 rfl rfl
theorem dX9_nextSeen_0 : decode cX9_nextSeen 0 = .ok (.iconst 1, 1) := dk_4 (dk_at dksX9_nextSeen_0 0 rfl rfl)
theorem dX9_nextSeen_1 : decode cX9_nextSeen 1 = .ok (.istore_n 2, 1) := dk_61 (dk_at dksX9_nextSeen_0 1 rfl rfl)
theorem dX9_nextSeen_2 : decode cX9_nextSeen 2 = .ok (.iload_n 2, 1) := dk_28 (dk_at dksX9_nextSeen_0 2 rfl rfl)
theorem dX9_nextSeen_3 : decode cX9_nextSeen 3 = .ok (.sipush 200, 3) := dk_17 0 200 (dk_at dksX9_nextSeen_0 3 rfl rfl)
theorem dX9_nextSeen_6 : decode cX9_nextSeen 6 = .ok (.if_icmp .gt 23, 3) := dk_163 0 23 (dk_at dksX9_nextSeen_0 6 rfl rfl)
theorem dX9_nextSeen_9 : decode cX9_nextSeen 9 = .ok (.aload_n 0, 1) := dk_42 (dk_at dksX9_nextSeen_0 9 rfl rfl)
theorem dX9_nextSeen_10 : decode cX9_nextSeen 10 = .ok (.invokevirtual 169, 3) := dk_182 0 169 (dk_at dksX9_nextSeen_0 10 rfl rfl)
theorem dX9_nextSeen_13 : decode cX9_nextSeen 13 = .ok (.aload_n 0, 1) := dk_42 (dk_at dksX9_nextSeen_0 13 rfl rfl)
theorem dX9_nextSeen_14 : decode cX9_nextSeen 14 = .ok (.iload_n 1, 1) := dk_27 (dk_at dksX9_nextSeen_0 14 rfl rfl)
theorem dX9_nextSeen_15 : decode cX9_nextSeen 15 = .ok (.invokevirtual 380, 3) := dk_182 1 124 (dk_at dksX9_nextSeen_0 15 rfl rfl)
theorem dX9_nextSeen_18 : decode cX9_nextSeen 18 = .ok (.ifCond .eq 5, 3) := dk_153 0 5 (dk_at dksX9_nextSeen_0 18 rfl rfl)
theorem dX9_nextSeen_21 : decode cX9_nextSeen 21 = .ok (.iload_n 2, 1) := dk_28 (dk_at dksX9_nextSeen_0 21 rfl rfl)
theorem dX9_nextSeen_22 : decode cX9_nextSeen 22 = .ok (.ireturn, 1) := dk_172 (dk_at dksX9_nextSeen_0 22 rfl rfl)
theorem dX9_nextSeen_23 : decode cX9_nextSeen 23 = .ok (.iinc 2 1, 3) := dk_132 2 1 (dk_at dksX9_nextSeen_1 0 rfl rfl)
theorem dX9_nextSeen_26 : decode cX9_nextSeen 26 = .ok (.goto (-24), 3) := dk_167 255 232 (dk_at dksX9_nextSeen_1 3 rfl rfl)
theorem dX9_nextSeen_29 : decode cX9_nextSeen 29 = .ok (.iconst (-1), 1) := dk_2 (dk_at dksX9_nextSeen_1 6 rfl rfl)
theorem dX9_nextSeen_30 : decode cX9_nextSeen 30 = .ok (.ireturn, 1) := dk_172 (dk_at dksX9_nextSeen_1 7 rfl rfl)
abbrev cX9_ifPassed : ByteArray := prog_16_method_113_code
def yX9_ifPassed : MethodName := ⟨RX9, "ifPassed", "(II)I"⟩
def dkwX9_ifPassed_1 : List UInt8 := [182, 0, 181, 172, 42, 182, 1, 148, 42, 42, 27, 28, 182, 1, 163, 182, 1, 154, 172]
abbrev dktX9_ifPassed_1 : List UInt8 := dkwX9_ifPassed_1 ++ []
def dkwX9_ifPassed_0 : List UInt8 := [42, 3, 181, 0, 77, 27, 184, 1, 145, 153, 0, 12, 28, 3, 6, 184, 0, 88, 154, 0, 9, 42, 4]
abbrev dktX9_ifPassed_0 : List UInt8 := dkwX9_ifPassed_0 ++ dktX9_ifPassed_1
theorem dksX9_ifPassed_0 : cX9_ifPassed.data.toList.drop 0 = dktX9_ifPassed_0 := by decide +kernel
theorem dksX9_ifPassed_1 : cX9_ifPassed.data.toList.drop 23 = dktX9_ifPassed_1 := dk_seg dksX9_ifPassed_0 23 rfl rfl
theorem dX9_ifPassed_0 : decode cX9_ifPassed 0 = .ok (.aload_n 0, 1) := dk_42 (dk_at dksX9_ifPassed_0 0 rfl rfl)
theorem dX9_ifPassed_1 : decode cX9_ifPassed 1 = .ok (.iconst 0, 1) := dk_3 (dk_at dksX9_ifPassed_0 1 rfl rfl)
theorem dX9_ifPassed_2 : decode cX9_ifPassed 2 = .ok (.putfield 77, 3) := dk_181 0 77 (dk_at dksX9_ifPassed_0 2 rfl rfl)
theorem dX9_ifPassed_5 : decode cX9_ifPassed 5 = .ok (.iload_n 1, 1) := dk_27 (dk_at dksX9_ifPassed_0 5 rfl rfl)
theorem dX9_ifPassed_6 : decode cX9_ifPassed 6 = .ok (.invokestatic 401, 3) := dk_184 1 145 (dk_at dksX9_ifPassed_0 6 rfl rfl)
theorem dX9_ifPassed_9 : decode cX9_ifPassed 9 = .ok (.ifCond .eq 12, 3) := dk_153 0 12 (dk_at dksX9_ifPassed_0 9 rfl rfl)
theorem dX9_ifPassed_12 : decode cX9_ifPassed 12 = .ok (.iload_n 2, 1) := dk_28 (dk_at dksX9_ifPassed_0 12 rfl rfl)
theorem dX9_ifPassed_13 : decode cX9_ifPassed 13 = .ok (.iconst 0, 1) := dk_3 (dk_at dksX9_ifPassed_0 13 rfl rfl)
theorem dX9_ifPassed_14 : decode cX9_ifPassed 14 = .ok (.iconst 3, 1) := dk_6 (dk_at dksX9_ifPassed_0 14 rfl rfl)
theorem dX9_ifPassed_15 : decode cX9_ifPassed 15 = .ok (.invokestatic 88, 3) := dk_184 0 88 (dk_at dksX9_ifPassed_0 15 rfl rfl)
theorem dX9_ifPassed_18 : decode cX9_ifPassed 18 = .ok (.ifCond .ne 9, 3) := dk_154 0 9 (dk_at dksX9_ifPassed_0 18 rfl rfl)
theorem dX9_ifPassed_21 : decode cX9_ifPassed 21 = .ok (.aload_n 0, 1) := dk_42 (dk_at dksX9_ifPassed_0 21 rfl rfl)
theorem dX9_ifPassed_22 : decode cX9_ifPassed 22 = .ok (.iconst 1, 1) := dk_4 (dk_at dksX9_ifPassed_0 22 rfl rfl)
theorem dX9_ifPassed_23 : decode cX9_ifPassed 23 = .ok (.invokevirtual 181, 3) := dk_182 0 181 (dk_at dksX9_ifPassed_1 0 rfl rfl)
theorem dX9_ifPassed_26 : decode cX9_ifPassed 26 = .ok (.ireturn, 1) := dk_172 (dk_at dksX9_ifPassed_1 3 rfl rfl)
theorem dX9_ifPassed_27 : decode cX9_ifPassed 27 = .ok (.aload_n 0, 1) := dk_42 (dk_at dksX9_ifPassed_1 4 rfl rfl)
theorem dX9_ifPassed_28 : decode cX9_ifPassed 28 = .ok (.invokevirtual 404, 3) := dk_182 1 148 (dk_at dksX9_ifPassed_1 5 rfl rfl)
theorem dX9_ifPassed_31 : decode cX9_ifPassed 31 = .ok (.aload_n 0, 1) := dk_42 (dk_at dksX9_ifPassed_1 8 rfl rfl)
theorem dX9_ifPassed_32 : decode cX9_ifPassed 32 = .ok (.aload_n 0, 1) := dk_42 (dk_at dksX9_ifPassed_1 9 rfl rfl)
theorem dX9_ifPassed_33 : decode cX9_ifPassed 33 = .ok (.iload_n 1, 1) := dk_27 (dk_at dksX9_ifPassed_1 10 rfl rfl)
theorem dX9_ifPassed_34 : decode cX9_ifPassed 34 = .ok (.iload_n 2, 1) := dk_28 (dk_at dksX9_ifPassed_1 11 rfl rfl)
theorem dX9_ifPassed_35 : decode cX9_ifPassed 35 = .ok (.invokevirtual 419, 3) := dk_182 1 163 (dk_at dksX9_ifPassed_1 12 rfl rfl)
theorem dX9_ifPassed_38 : decode cX9_ifPassed 38 = .ok (.invokevirtual 410, 3) := dk_182 1 154 (dk_at dksX9_ifPassed_1 15 rfl rfl)
theorem dX9_ifPassed_41 : decode cX9_ifPassed 41 = .ok (.ireturn, 1) := dk_172 (dk_at dksX9_ifPassed_1 18 rfl rfl)
abbrev cX9_toldBehind : ByteArray := prog_16_method_112_code
def yX9_toldBehind : MethodName := ⟨RX9, "toldBehind", "(II)I"⟩
def dkwX9_toldBehind_2 : List UInt8 := [42, 182, 1, 91, 172, 29, 172, 42, 28, 5, 160, 0, 7, 4, 167, 0, 4, 6, 182, 1, 88, 172]
abbrev dktX9_toldBehind_2 : List UInt8 := dkwX9_toldBehind_2 ++ []
def dkwX9_toldBehind_1 : List UInt8 := [171, 0, 0, 0, 32, 0, 0, 0, 2, 0, 0, 0, 0, 0, 0, 0, 25, 0, 0, 0, 1, 0, 0, 0, 30]
abbrev dktX9_toldBehind_1 : List UInt8 := dkwX9_toldBehind_1 ++ dktX9_toldBehind_2
def dkwX9_toldBehind_0 : List UInt8 := [42, 27, 182, 1, 160, 62, 28]
abbrev dktX9_toldBehind_0 : List UInt8 := dkwX9_toldBehind_0 ++ dktX9_toldBehind_1
theorem dksX9_toldBehind_0 : cX9_toldBehind.data.toList.drop 0 = dktX9_toldBehind_0 := by decide +kernel
theorem dksX9_toldBehind_1 : cX9_toldBehind.data.toList.drop 7 = dktX9_toldBehind_1 := dk_seg dksX9_toldBehind_0 7 rfl rfl
theorem dksX9_toldBehind_2 : cX9_toldBehind.data.toList.drop 32 = dktX9_toldBehind_2 := dk_seg dksX9_toldBehind_1 25 rfl rfl
theorem dX9_toldBehind_0 : decode cX9_toldBehind 0 = .ok (.aload_n 0, 1) := dk_42 (dk_at dksX9_toldBehind_0 0 rfl rfl)
theorem dX9_toldBehind_1 : decode cX9_toldBehind 1 = .ok (.iload_n 1, 1) := dk_27 (dk_at dksX9_toldBehind_0 1 rfl rfl)
theorem dX9_toldBehind_2 : decode cX9_toldBehind 2 = .ok (.invokevirtual 416, 3) := dk_182 1 160 (dk_at dksX9_toldBehind_0 2 rfl rfl)
theorem dX9_toldBehind_5 : decode cX9_toldBehind 5 = .ok (.istore_n 3, 1) := dk_62 (dk_at dksX9_toldBehind_0 5 rfl rfl)
theorem dX9_toldBehind_6 : decode cX9_toldBehind 6 = .ok (.iload_n 2, 1) := dk_28 (dk_at dksX9_toldBehind_0 6 rfl rfl)
theorem dX9_toldBehind_7 : decode cX9_toldBehind 7 = .ok (.lookupswitch 32 #[(0, 25), (1, 30)], 25) := by decide +kernel
theorem dX9_toldBehind_32 : decode cX9_toldBehind 32 = .ok (.aload_n 0, 1) := dk_42 (dk_at dksX9_toldBehind_2 0 rfl rfl)
theorem dX9_toldBehind_33 : decode cX9_toldBehind 33 = .ok (.invokevirtual 347, 3) := dk_182 1 91 (dk_at dksX9_toldBehind_2 1 rfl rfl)
theorem dX9_toldBehind_36 : decode cX9_toldBehind 36 = .ok (.ireturn, 1) := dk_172 (dk_at dksX9_toldBehind_2 4 rfl rfl)
theorem dX9_toldBehind_37 : decode cX9_toldBehind 37 = .ok (.iload_n 3, 1) := dk_29 (dk_at dksX9_toldBehind_2 5 rfl rfl)
theorem dX9_toldBehind_38 : decode cX9_toldBehind 38 = .ok (.ireturn, 1) := dk_172 (dk_at dksX9_toldBehind_2 6 rfl rfl)
theorem dX9_toldBehind_39 : decode cX9_toldBehind 39 = .ok (.aload_n 0, 1) := dk_42 (dk_at dksX9_toldBehind_2 7 rfl rfl)
theorem dX9_toldBehind_40 : decode cX9_toldBehind 40 = .ok (.iload_n 2, 1) := dk_28 (dk_at dksX9_toldBehind_2 8 rfl rfl)
theorem dX9_toldBehind_41 : decode cX9_toldBehind 41 = .ok (.iconst 2, 1) := dk_5 (dk_at dksX9_toldBehind_2 9 rfl rfl)
theorem dX9_toldBehind_42 : decode cX9_toldBehind 42 = .ok (.if_icmp .ne 7, 3) := dk_160 0 7 (dk_at dksX9_toldBehind_2 10 rfl rfl)
theorem dX9_toldBehind_45 : decode cX9_toldBehind 45 = .ok (.iconst 1, 1) := dk_4 (dk_at dksX9_toldBehind_2 13 rfl rfl)
theorem dX9_toldBehind_46 : decode cX9_toldBehind 46 = .ok (.goto 4, 3) := dk_167 0 4 (dk_at dksX9_toldBehind_2 14 rfl rfl)
theorem dX9_toldBehind_49 : decode cX9_toldBehind 49 = .ok (.iconst 3, 1) := dk_6 (dk_at dksX9_toldBehind_2 17 rfl rfl)
theorem dX9_toldBehind_50 : decode cX9_toldBehind 50 = .ok (.invokevirtual 344, 3) := dk_182 1 88 (dk_at dksX9_toldBehind_2 18 rfl rfl)
theorem dX9_toldBehind_53 : decode cX9_toldBehind 53 = .ok (.ireturn, 1) := dk_172 (dk_at dksX9_toldBehind_2 21 rfl rfl)
abbrev cX9_unseen : ByteArray := prog_16_method_119_code
def yX9_unseen : MethodName := ⟨RX9, "unseen", "(II)I"⟩
def dkwX9_unseen_1 : List UInt8 := [182, 1, 178, 167, 0, 8, 42, 4, 182, 0, 181, 172]
abbrev dktX9_unseen_1 : List UInt8 := dkwX9_unseen_1 ++ []
def dkwX9_unseen_0 : List UInt8 := [42, 3, 181, 0, 77, 42, 27, 182, 1, 60, 153, 0, 20, 42, 28, 182, 1, 97, 153, 0, 12, 42, 27, 28]
abbrev dktX9_unseen_0 : List UInt8 := dkwX9_unseen_0 ++ dktX9_unseen_1
theorem dksX9_unseen_0 : cX9_unseen.data.toList.drop 0 = dktX9_unseen_0 := by decide +kernel
theorem dksX9_unseen_1 : cX9_unseen.data.toList.drop 24 = dktX9_unseen_1 := dk_seg dksX9_unseen_0 24 rfl rfl
theorem dX9_unseen_0 : decode cX9_unseen 0 = .ok (.aload_n 0, 1) := dk_42 (dk_at dksX9_unseen_0 0 rfl rfl)
theorem dX9_unseen_1 : decode cX9_unseen 1 = .ok (.iconst 0, 1) := dk_3 (dk_at dksX9_unseen_0 1 rfl rfl)
theorem dX9_unseen_2 : decode cX9_unseen 2 = .ok (.putfield 77, 3) := dk_181 0 77 (dk_at dksX9_unseen_0 2 rfl rfl)
theorem dX9_unseen_5 : decode cX9_unseen 5 = .ok (.aload_n 0, 1) := dk_42 (dk_at dksX9_unseen_0 5 rfl rfl)
theorem dX9_unseen_6 : decode cX9_unseen 6 = .ok (.iload_n 1, 1) := dk_27 (dk_at dksX9_unseen_0 6 rfl rfl)
theorem dX9_unseen_7 : decode cX9_unseen 7 = .ok (.invokevirtual 316, 3) := dk_182 1 60 (dk_at dksX9_unseen_0 7 rfl rfl)
theorem dX9_unseen_10 : decode cX9_unseen 10 = .ok (.ifCond .eq 20, 3) := dk_153 0 20 (dk_at dksX9_unseen_0 10 rfl rfl)
theorem dX9_unseen_13 : decode cX9_unseen 13 = .ok (.aload_n 0, 1) := dk_42 (dk_at dksX9_unseen_0 13 rfl rfl)
theorem dX9_unseen_14 : decode cX9_unseen 14 = .ok (.iload_n 2, 1) := dk_28 (dk_at dksX9_unseen_0 14 rfl rfl)
theorem dX9_unseen_15 : decode cX9_unseen 15 = .ok (.invokevirtual 353, 3) := dk_182 1 97 (dk_at dksX9_unseen_0 15 rfl rfl)
theorem dX9_unseen_18 : decode cX9_unseen 18 = .ok (.ifCond .eq 12, 3) := dk_153 0 12 (dk_at dksX9_unseen_0 18 rfl rfl)
theorem dX9_unseen_21 : decode cX9_unseen 21 = .ok (.aload_n 0, 1) := dk_42 (dk_at dksX9_unseen_0 21 rfl rfl)
theorem dX9_unseen_22 : decode cX9_unseen 22 = .ok (.iload_n 1, 1) := dk_27 (dk_at dksX9_unseen_0 22 rfl rfl)
theorem dX9_unseen_23 : decode cX9_unseen 23 = .ok (.iload_n 2, 1) := dk_28 (dk_at dksX9_unseen_0 23 rfl rfl)
theorem dX9_unseen_24 : decode cX9_unseen 24 = .ok (.invokevirtual 434, 3) := dk_182 1 178 (dk_at dksX9_unseen_1 0 rfl rfl)
theorem dX9_unseen_27 : decode cX9_unseen 27 = .ok (.goto 8, 3) := dk_167 0 8 (dk_at dksX9_unseen_1 3 rfl rfl)
theorem dX9_unseen_30 : decode cX9_unseen 30 = .ok (.aload_n 0, 1) := dk_42 (dk_at dksX9_unseen_1 6 rfl rfl)
theorem dX9_unseen_31 : decode cX9_unseen 31 = .ok (.iconst 1, 1) := dk_4 (dk_at dksX9_unseen_1 7 rfl rfl)
theorem dX9_unseen_32 : decode cX9_unseen 32 = .ok (.invokevirtual 181, 3) := dk_182 0 181 (dk_at dksX9_unseen_1 8 rfl rfl)
theorem dX9_unseen_35 : decode cX9_unseen 35 = .ok (.ireturn, 1) := dk_172 (dk_at dksX9_unseen_1 11 rfl rfl)
abbrev cX9_unseenTo : ByteArray := prog_16_method_118_code
def yX9_unseenTo : MethodName := ⟨RX9, "unseenTo", "(II)I"⟩
def dkwX9_unseenTo_0 : List UInt8 := [42, 182, 1, 148, 42, 27, 182, 1, 172, 42, 42, 28, 182, 1, 175, 182, 1, 154, 172]
abbrev dktX9_unseenTo_0 : List UInt8 := dkwX9_unseenTo_0 ++ []
theorem dksX9_unseenTo_0 : cX9_unseenTo.data.toList.drop 0 = dktX9_unseenTo_0 := by decide +kernel
theorem dX9_unseenTo_0 : decode cX9_unseenTo 0 = .ok (.aload_n 0, 1) := dk_42 (dk_at dksX9_unseenTo_0 0 rfl rfl)
theorem dX9_unseenTo_1 : decode cX9_unseenTo 1 = .ok (.invokevirtual 404, 3) := dk_182 1 148 (dk_at dksX9_unseenTo_0 1 rfl rfl)
theorem dX9_unseenTo_4 : decode cX9_unseenTo 4 = .ok (.aload_n 0, 1) := dk_42 (dk_at dksX9_unseenTo_0 4 rfl rfl)
theorem dX9_unseenTo_5 : decode cX9_unseenTo 5 = .ok (.iload_n 1, 1) := dk_27 (dk_at dksX9_unseenTo_0 5 rfl rfl)
theorem dX9_unseenTo_6 : decode cX9_unseenTo 6 = .ok (.invokevirtual 428, 3) := dk_182 1 172 (dk_at dksX9_unseenTo_0 6 rfl rfl)
theorem dX9_unseenTo_9 : decode cX9_unseenTo 9 = .ok (.aload_n 0, 1) := dk_42 (dk_at dksX9_unseenTo_0 9 rfl rfl)
theorem dX9_unseenTo_10 : decode cX9_unseenTo 10 = .ok (.aload_n 0, 1) := dk_42 (dk_at dksX9_unseenTo_0 10 rfl rfl)
theorem dX9_unseenTo_11 : decode cX9_unseenTo 11 = .ok (.iload_n 2, 1) := dk_28 (dk_at dksX9_unseenTo_0 11 rfl rfl)
theorem dX9_unseenTo_12 : decode cX9_unseenTo 12 = .ok (.invokevirtual 431, 3) := dk_182 1 175 (dk_at dksX9_unseenTo_0 12 rfl rfl)
theorem dX9_unseenTo_15 : decode cX9_unseenTo 15 = .ok (.invokevirtual 410, 3) := dk_182 1 154 (dk_at dksX9_unseenTo_0 15 rfl rfl)
theorem dX9_unseenTo_18 : decode cX9_unseenTo 18 = .ok (.ireturn, 1) := dk_172 (dk_at dksX9_unseenTo_0 18 rfl rfl)
abbrev cX9_beginWays : ByteArray := prog_16_method_114_code
def yX9_beginWays : MethodName := ⟨RX9, "beginWays", "(I)V"⟩
def dkwX9_beginWays_1 : List UInt8 := [160, 0, 7, 4, 167, 0, 4, 3, 84, 132, 2, 1, 167, 255, 224, 177]
abbrev dktX9_beginWays_1 : List UInt8 := dkwX9_beginWays_1 ++ []
def dkwX9_beginWays_0 : List UInt8 := [3, 61, 28, 42, 182, 0, 84, 162, 0, 30, 42, 180, 0, 46, 28, 28, 42, 27, 3, 182, 0, 80]
abbrev dktX9_beginWays_0 : List UInt8 := dkwX9_beginWays_0 ++ dktX9_beginWays_1
theorem dksX9_beginWays_0 : cX9_beginWays.data.toList.drop 0 = dktX9_beginWays_0 := by decide +kernel
theorem dksX9_beginWays_1 : cX9_beginWays.data.toList.drop 22 = dktX9_beginWays_1 := dk_seg dksX9_beginWays_0 22 rfl rfl
theorem dX9_beginWays_0 : decode cX9_beginWays 0 = .ok (.iconst 0, 1) := dk_3 (dk_at dksX9_beginWays_0 0 rfl rfl)
theorem dX9_beginWays_1 : decode cX9_beginWays 1 = .ok (.istore_n 2, 1) := dk_61 (dk_at dksX9_beginWays_0 1 rfl rfl)
theorem dX9_beginWays_2 : decode cX9_beginWays 2 = .ok (.iload_n 2, 1) := dk_28 (dk_at dksX9_beginWays_0 2 rfl rfl)
theorem dX9_beginWays_3 : decode cX9_beginWays 3 = .ok (.aload_n 0, 1) := dk_42 (dk_at dksX9_beginWays_0 3 rfl rfl)
theorem dX9_beginWays_4 : decode cX9_beginWays 4 = .ok (.invokevirtual 84, 3) := dk_182 0 84 (dk_at dksX9_beginWays_0 4 rfl rfl)
theorem dX9_beginWays_7 : decode cX9_beginWays 7 = .ok (.if_icmp .ge 30, 3) := dk_162 0 30 (dk_at dksX9_beginWays_0 7 rfl rfl)
theorem dX9_beginWays_10 : decode cX9_beginWays 10 = .ok (.aload_n 0, 1) := dk_42 (dk_at dksX9_beginWays_0 10 rfl rfl)
theorem dX9_beginWays_11 : decode cX9_beginWays 11 = .ok (.getfield 46, 3) := dk_180 0 46 (dk_at dksX9_beginWays_0 11 rfl rfl)
theorem dX9_beginWays_14 : decode cX9_beginWays 14 = .ok (.iload_n 2, 1) := dk_28 (dk_at dksX9_beginWays_0 14 rfl rfl)
theorem dX9_beginWays_15 : decode cX9_beginWays 15 = .ok (.iload_n 2, 1) := dk_28 (dk_at dksX9_beginWays_0 15 rfl rfl)
theorem dX9_beginWays_16 : decode cX9_beginWays 16 = .ok (.aload_n 0, 1) := dk_42 (dk_at dksX9_beginWays_0 16 rfl rfl)
theorem dX9_beginWays_17 : decode cX9_beginWays 17 = .ok (.iload_n 1, 1) := dk_27 (dk_at dksX9_beginWays_0 17 rfl rfl)
theorem dX9_beginWays_18 : decode cX9_beginWays 18 = .ok (.iconst 0, 1) := dk_3 (dk_at dksX9_beginWays_0 18 rfl rfl)
theorem dX9_beginWays_19 : decode cX9_beginWays 19 = .ok (.invokevirtual 80, 3) := dk_182 0 80 (dk_at dksX9_beginWays_0 19 rfl rfl)
theorem dX9_beginWays_22 : decode cX9_beginWays 22 = .ok (.if_icmp .ne 7, 3) := dk_160 0 7 (dk_at dksX9_beginWays_1 0 rfl rfl)
theorem dX9_beginWays_25 : decode cX9_beginWays 25 = .ok (.iconst 1, 1) := dk_4 (dk_at dksX9_beginWays_1 3 rfl rfl)
theorem dX9_beginWays_26 : decode cX9_beginWays 26 = .ok (.goto 4, 3) := dk_167 0 4 (dk_at dksX9_beginWays_1 4 rfl rfl)
theorem dX9_beginWays_29 : decode cX9_beginWays 29 = .ok (.iconst 0, 1) := dk_3 (dk_at dksX9_beginWays_1 7 rfl rfl)
theorem dX9_beginWays_30 : decode cX9_beginWays 30 = .ok (.bastore, 1) := dk_84 (dk_at dksX9_beginWays_1 8 rfl rfl)
theorem dX9_beginWays_31 : decode cX9_beginWays 31 = .ok (.iinc 2 1, 3) := dk_132 2 1 (dk_at dksX9_beginWays_1 9 rfl rfl)
theorem dX9_beginWays_34 : decode cX9_beginWays 34 = .ok (.goto (-32), 3) := dk_167 255 224 (dk_at dksX9_beginWays_1 12 rfl rfl)
theorem dX9_beginWays_37 : decode cX9_beginWays 37 = .ok (.return_, 1) := dk_177 (dk_at dksX9_beginWays_1 15 rfl rfl)
abbrev cX9_ticksTo : ByteArray := prog_16_method_117_code
def yX9_ticksTo : MethodName := ⟨RX9, "ticksTo", "(I)I"⟩
def dkwX9_ticksTo_1 : List UInt8 := [132, 2, 1, 167, 255, 232, 2, 172]
abbrev dktX9_ticksTo_1 : List UInt8 := dkwX9_ticksTo_1 ++ []
def dkwX9_ticksTo_0 : List UInt8 := [3, 61, 28, 16, 60, 163, 0, 24, 42, 180, 0, 46, 27, 51, 153, 0, 5, 28, 172, 42, 182, 1, 169]
abbrev dktX9_ticksTo_0 : List UInt8 := dkwX9_ticksTo_0 ++ dktX9_ticksTo_1
theorem dksX9_ticksTo_0 : cX9_ticksTo.data.toList.drop 0 = dktX9_ticksTo_0 := by decide +kernel
theorem dksX9_ticksTo_1 : cX9_ticksTo.data.toList.drop 23 = dktX9_ticksTo_1 := dk_seg dksX9_ticksTo_0 23 rfl rfl
theorem dX9_ticksTo_0 : decode cX9_ticksTo 0 = .ok (.iconst 0, 1) := dk_3 (dk_at dksX9_ticksTo_0 0 rfl rfl)
theorem dX9_ticksTo_1 : decode cX9_ticksTo 1 = .ok (.istore_n 2, 1) := dk_61 (dk_at dksX9_ticksTo_0 1 rfl rfl)
theorem dX9_ticksTo_2 : decode cX9_ticksTo 2 = .ok (.iload_n 2, 1) := dk_28 (dk_at dksX9_ticksTo_0 2 rfl rfl)
theorem dX9_ticksTo_3 : decode cX9_ticksTo 3 = .ok (.bipush 60, 2) := dk_16 60 (dk_at dksX9_ticksTo_0 3 rfl rfl)
theorem dX9_ticksTo_5 : decode cX9_ticksTo 5 = .ok (.if_icmp .gt 24, 3) := dk_163 0 24 (dk_at dksX9_ticksTo_0 5 rfl rfl)
theorem dX9_ticksTo_8 : decode cX9_ticksTo 8 = .ok (.aload_n 0, 1) := dk_42 (dk_at dksX9_ticksTo_0 8 rfl rfl)
theorem dX9_ticksTo_9 : decode cX9_ticksTo 9 = .ok (.getfield 46, 3) := dk_180 0 46 (dk_at dksX9_ticksTo_0 9 rfl rfl)
theorem dX9_ticksTo_12 : decode cX9_ticksTo 12 = .ok (.iload_n 1, 1) := dk_27 (dk_at dksX9_ticksTo_0 12 rfl rfl)
theorem dX9_ticksTo_13 : decode cX9_ticksTo 13 = .ok (.baload, 1) := dk_51 (dk_at dksX9_ticksTo_0 13 rfl rfl)
theorem dX9_ticksTo_14 : decode cX9_ticksTo 14 = .ok (.ifCond .eq 5, 3) := dk_153 0 5 (dk_at dksX9_ticksTo_0 14 rfl rfl)
theorem dX9_ticksTo_17 : decode cX9_ticksTo 17 = .ok (.iload_n 2, 1) := dk_28 (dk_at dksX9_ticksTo_0 17 rfl rfl)
theorem dX9_ticksTo_18 : decode cX9_ticksTo 18 = .ok (.ireturn, 1) := dk_172 (dk_at dksX9_ticksTo_0 18 rfl rfl)
theorem dX9_ticksTo_19 : decode cX9_ticksTo 19 = .ok (.aload_n 0, 1) := dk_42 (dk_at dksX9_ticksTo_0 19 rfl rfl)
theorem dX9_ticksTo_20 : decode cX9_ticksTo 20 = .ok (.invokevirtual 425, 3) := dk_182 1 169 (dk_at dksX9_ticksTo_0 20 rfl rfl)
theorem dX9_ticksTo_23 : decode cX9_ticksTo 23 = .ok (.iinc 2 1, 3) := dk_132 2 1 (dk_at dksX9_ticksTo_1 0 rfl rfl)
theorem dX9_ticksTo_26 : decode cX9_ticksTo 26 = .ok (.goto (-24), 3) := dk_167 255 232 (dk_at dksX9_ticksTo_1 3 rfl rfl)
theorem dX9_ticksTo_29 : decode cX9_ticksTo 29 = .ok (.iconst (-1), 1) := dk_2 (dk_at dksX9_ticksTo_1 6 rfl rfl)
theorem dX9_ticksTo_30 : decode cX9_ticksTo 30 = .ok (.ireturn, 1) := dk_172 (dk_at dksX9_ticksTo_1 7 rfl rfl)
abbrev cX9_goFurther : ByteArray := prog_16_method_116_code
def yX9_goFurther : MethodName := ⟨RX9, "goFurther", "()V"⟩
def dkwX9_goFurther_4 : List UInt8 := [167, 255, 233, 177]
abbrev dktX9_goFurther_4 : List UInt8 := dkwX9_goFurther_4 ++ []
def dkwX9_goFurther_3 : List UInt8 := [42, 182, 0, 84, 162, 0, 21, 42, 180, 0, 46, 27, 42, 180, 0, 49, 27, 51, 84, 132, 1, 1]
abbrev dktX9_goFurther_3 : List UInt8 := dkwX9_goFurther_3 ++ dktX9_goFurther_4
def dkwX9_goFurther_2 : List UInt8 := [42, 180, 0, 29, 27, 51, 154, 0, 7, 4, 167, 0, 4, 3, 84, 132, 1, 1, 167, 255, 200, 3, 60, 27]
abbrev dktX9_goFurther_2 : List UInt8 := dkwX9_goFurther_2 ++ dktX9_goFurther_3
def dkwX9_goFurther_1 : List UInt8 := [180, 0, 46, 27, 51, 154, 0, 11, 42, 27, 182, 1, 166, 153, 0, 24, 42, 27, 182, 0, 125, 154, 0, 16]
abbrev dktX9_goFurther_1 : List UInt8 := dkwX9_goFurther_1 ++ dktX9_goFurther_2
def dkwX9_goFurther_0 : List UInt8 := [42, 182, 0, 169, 42, 182, 0, 145, 3, 60, 27, 42, 182, 0, 84, 162, 0, 54, 42, 180, 0, 49, 27, 42]
abbrev dktX9_goFurther_0 : List UInt8 := dkwX9_goFurther_0 ++ dktX9_goFurther_1
theorem dksX9_goFurther_0 : cX9_goFurther.data.toList.drop 0 = dktX9_goFurther_0 := by decide +kernel
theorem dksX9_goFurther_1 : cX9_goFurther.data.toList.drop 24 = dktX9_goFurther_1 := dk_seg dksX9_goFurther_0 24 rfl rfl
theorem dksX9_goFurther_2 : cX9_goFurther.data.toList.drop 48 = dktX9_goFurther_2 := dk_seg dksX9_goFurther_1 24 rfl rfl
theorem dksX9_goFurther_3 : cX9_goFurther.data.toList.drop 72 = dktX9_goFurther_3 := dk_seg dksX9_goFurther_2 24 rfl rfl
theorem dksX9_goFurther_4 : cX9_goFurther.data.toList.drop 94 = dktX9_goFurther_4 := dk_seg dksX9_goFurther_3 22 rfl rfl
theorem dX9_goFurther_0 : decode cX9_goFurther 0 = .ok (.aload_n 0, 1) := dk_42 (dk_at dksX9_goFurther_0 0 rfl rfl)
theorem dX9_goFurther_1 : decode cX9_goFurther 1 = .ok (.invokevirtual 169, 3) := dk_182 0 169 (dk_at dksX9_goFurther_0 1 rfl rfl)
theorem dX9_goFurther_4 : decode cX9_goFurther 4 = .ok (.aload_n 0, 1) := dk_42 (dk_at dksX9_goFurther_0 4 rfl rfl)
theorem dX9_goFurther_5 : decode cX9_goFurther 5 = .ok (.invokevirtual 145, 3) := dk_182 0 145 (dk_at dksX9_goFurther_0 5 rfl rfl)
theorem dX9_goFurther_8 : decode cX9_goFurther 8 = .ok (.iconst 0, 1) := dk_3 (dk_at dksX9_goFurther_0 8 rfl rfl)
theorem dX9_goFurther_9 : decode cX9_goFurther 9 = .ok (.istore_n 1, 1) := dk_60 (dk_at dksX9_goFurther_0 9 rfl rfl)
theorem dX9_goFurther_10 : decode cX9_goFurther 10 = .ok (.iload_n 1, 1) := dk_27 (dk_at dksX9_goFurther_0 10 rfl rfl)
theorem dX9_goFurther_11 : decode cX9_goFurther 11 = .ok (.aload_n 0, 1) := dk_42 (dk_at dksX9_goFurther_0 11 rfl rfl)
theorem dX9_goFurther_12 : decode cX9_goFurther 12 = .ok (.invokevirtual 84, 3) := dk_182 0 84 (dk_at dksX9_goFurther_0 12 rfl rfl)
theorem dX9_goFurther_15 : decode cX9_goFurther 15 = .ok (.if_icmp .ge 54, 3) := dk_162 0 54 (dk_at dksX9_goFurther_0 15 rfl rfl)
theorem dX9_goFurther_18 : decode cX9_goFurther 18 = .ok (.aload_n 0, 1) := dk_42 (dk_at dksX9_goFurther_0 18 rfl rfl)
theorem dX9_goFurther_19 : decode cX9_goFurther 19 = .ok (.getfield 49, 3) := dk_180 0 49 (dk_at dksX9_goFurther_0 19 rfl rfl)
theorem dX9_goFurther_22 : decode cX9_goFurther 22 = .ok (.iload_n 1, 1) := dk_27 (dk_at dksX9_goFurther_0 22 rfl rfl)
theorem dX9_goFurther_23 : decode cX9_goFurther 23 = .ok (.aload_n 0, 1) := dk_42 (dk_at dksX9_goFurther_0 23 rfl rfl)
theorem dX9_goFurther_24 : decode cX9_goFurther 24 = .ok (.getfield 46, 3) := dk_180 0 46 (dk_at dksX9_goFurther_1 0 rfl rfl)
theorem dX9_goFurther_27 : decode cX9_goFurther 27 = .ok (.iload_n 1, 1) := dk_27 (dk_at dksX9_goFurther_1 3 rfl rfl)
theorem dX9_goFurther_28 : decode cX9_goFurther 28 = .ok (.baload, 1) := dk_51 (dk_at dksX9_goFurther_1 4 rfl rfl)
theorem dX9_goFurther_29 : decode cX9_goFurther 29 = .ok (.ifCond .ne 11, 3) := dk_154 0 11 (dk_at dksX9_goFurther_1 5 rfl rfl)
theorem dX9_goFurther_32 : decode cX9_goFurther 32 = .ok (.aload_n 0, 1) := dk_42 (dk_at dksX9_goFurther_1 8 rfl rfl)
theorem dX9_goFurther_33 : decode cX9_goFurther 33 = .ok (.iload_n 1, 1) := dk_27 (dk_at dksX9_goFurther_1 9 rfl rfl)
theorem dX9_goFurther_34 : decode cX9_goFurther 34 = .ok (.invokevirtual 422, 3) := dk_182 1 166 (dk_at dksX9_goFurther_1 10 rfl rfl)
theorem dX9_goFurther_37 : decode cX9_goFurther 37 = .ok (.ifCond .eq 24, 3) := dk_153 0 24 (dk_at dksX9_goFurther_1 13 rfl rfl)
theorem dX9_goFurther_40 : decode cX9_goFurther 40 = .ok (.aload_n 0, 1) := dk_42 (dk_at dksX9_goFurther_1 16 rfl rfl)
theorem dX9_goFurther_41 : decode cX9_goFurther 41 = .ok (.iload_n 1, 1) := dk_27 (dk_at dksX9_goFurther_1 17 rfl rfl)
theorem dX9_goFurther_42 : decode cX9_goFurther 42 = .ok (.invokevirtual 125, 3) := dk_182 0 125 (dk_at dksX9_goFurther_1 18 rfl rfl)
theorem dX9_goFurther_45 : decode cX9_goFurther 45 = .ok (.ifCond .ne 16, 3) := dk_154 0 16 (dk_at dksX9_goFurther_1 21 rfl rfl)
theorem dX9_goFurther_48 : decode cX9_goFurther 48 = .ok (.aload_n 0, 1) := dk_42 (dk_at dksX9_goFurther_2 0 rfl rfl)
theorem dX9_goFurther_49 : decode cX9_goFurther 49 = .ok (.getfield 29, 3) := dk_180 0 29 (dk_at dksX9_goFurther_2 1 rfl rfl)
theorem dX9_goFurther_52 : decode cX9_goFurther 52 = .ok (.iload_n 1, 1) := dk_27 (dk_at dksX9_goFurther_2 4 rfl rfl)
theorem dX9_goFurther_53 : decode cX9_goFurther 53 = .ok (.baload, 1) := dk_51 (dk_at dksX9_goFurther_2 5 rfl rfl)
theorem dX9_goFurther_54 : decode cX9_goFurther 54 = .ok (.ifCond .ne 7, 3) := dk_154 0 7 (dk_at dksX9_goFurther_2 6 rfl rfl)
theorem dX9_goFurther_57 : decode cX9_goFurther 57 = .ok (.iconst 1, 1) := dk_4 (dk_at dksX9_goFurther_2 9 rfl rfl)
theorem dX9_goFurther_58 : decode cX9_goFurther 58 = .ok (.goto 4, 3) := dk_167 0 4 (dk_at dksX9_goFurther_2 10 rfl rfl)
theorem dX9_goFurther_61 : decode cX9_goFurther 61 = .ok (.iconst 0, 1) := dk_3 (dk_at dksX9_goFurther_2 13 rfl rfl)
theorem dX9_goFurther_62 : decode cX9_goFurther 62 = .ok (.bastore, 1) := dk_84 (dk_at dksX9_goFurther_2 14 rfl rfl)
theorem dX9_goFurther_63 : decode cX9_goFurther 63 = .ok (.iinc 1 1, 3) := dk_132 1 1 (dk_at dksX9_goFurther_2 15 rfl rfl)
theorem dX9_goFurther_66 : decode cX9_goFurther 66 = .ok (.goto (-56), 3) := dk_167 255 200 (dk_at dksX9_goFurther_2 18 rfl rfl)
theorem dX9_goFurther_69 : decode cX9_goFurther 69 = .ok (.iconst 0, 1) := dk_3 (dk_at dksX9_goFurther_2 21 rfl rfl)
theorem dX9_goFurther_70 : decode cX9_goFurther 70 = .ok (.istore_n 1, 1) := dk_60 (dk_at dksX9_goFurther_2 22 rfl rfl)
theorem dX9_goFurther_71 : decode cX9_goFurther 71 = .ok (.iload_n 1, 1) := dk_27 (dk_at dksX9_goFurther_2 23 rfl rfl)
theorem dX9_goFurther_72 : decode cX9_goFurther 72 = .ok (.aload_n 0, 1) := dk_42 (dk_at dksX9_goFurther_3 0 rfl rfl)
theorem dX9_goFurther_73 : decode cX9_goFurther 73 = .ok (.invokevirtual 84, 3) := dk_182 0 84 (dk_at dksX9_goFurther_3 1 rfl rfl)
theorem dX9_goFurther_76 : decode cX9_goFurther 76 = .ok (.if_icmp .ge 21, 3) := dk_162 0 21 (dk_at dksX9_goFurther_3 4 rfl rfl)
theorem dX9_goFurther_79 : decode cX9_goFurther 79 = .ok (.aload_n 0, 1) := dk_42 (dk_at dksX9_goFurther_3 7 rfl rfl)
theorem dX9_goFurther_80 : decode cX9_goFurther 80 = .ok (.getfield 46, 3) := dk_180 0 46 (dk_at dksX9_goFurther_3 8 rfl rfl)
theorem dX9_goFurther_83 : decode cX9_goFurther 83 = .ok (.iload_n 1, 1) := dk_27 (dk_at dksX9_goFurther_3 11 rfl rfl)
theorem dX9_goFurther_84 : decode cX9_goFurther 84 = .ok (.aload_n 0, 1) := dk_42 (dk_at dksX9_goFurther_3 12 rfl rfl)
theorem dX9_goFurther_85 : decode cX9_goFurther 85 = .ok (.getfield 49, 3) := dk_180 0 49 (dk_at dksX9_goFurther_3 13 rfl rfl)
theorem dX9_goFurther_88 : decode cX9_goFurther 88 = .ok (.iload_n 1, 1) := dk_27 (dk_at dksX9_goFurther_3 16 rfl rfl)
theorem dX9_goFurther_89 : decode cX9_goFurther 89 = .ok (.baload, 1) := dk_51 (dk_at dksX9_goFurther_3 17 rfl rfl)
theorem dX9_goFurther_90 : decode cX9_goFurther 90 = .ok (.bastore, 1) := dk_84 (dk_at dksX9_goFurther_3 18 rfl rfl)
theorem dX9_goFurther_91 : decode cX9_goFurther 91 = .ok (.iinc 1 1, 3) := dk_132 1 1 (dk_at dksX9_goFurther_3 19 rfl rfl)
theorem dX9_goFurther_94 : decode cX9_goFurther 94 = .ok (.goto (-23), 3) := dk_167 255 233 (dk_at dksX9_goFurther_4 0 rfl rfl)
theorem dX9_goFurther_97 : decode cX9_goFurther 97 = .ok (.return_, 1) := dk_177 (dk_at dksX9_goFurther_4 3 rfl rfl)
abbrev cX9_isBeside : ByteArray := prog_16_method_115_code
def yX9_isBeside : MethodName := ⟨RX9, "isBeside", "(I)Z"⟩
def dkwX9_isBeside_1 : List UInt8 := [51, 153, 0, 5, 4, 172, 132, 2, 1, 167, 255, 225, 3, 172]
abbrev dktX9_isBeside_1 : List UInt8 := dkwX9_isBeside_1 ++ []
def dkwX9_isBeside_0 : List UInt8 := [3, 61, 28, 7, 162, 0, 32, 42, 27, 28, 182, 0, 122, 62, 29, 2, 159, 0, 14, 42, 180, 0, 46, 29]
abbrev dktX9_isBeside_0 : List UInt8 := dkwX9_isBeside_0 ++ dktX9_isBeside_1
theorem dksX9_isBeside_0 : cX9_isBeside.data.toList.drop 0 = dktX9_isBeside_0 := by decide +kernel
theorem dksX9_isBeside_1 : cX9_isBeside.data.toList.drop 24 = dktX9_isBeside_1 := dk_seg dksX9_isBeside_0 24 rfl rfl
theorem dX9_isBeside_0 : decode cX9_isBeside 0 = .ok (.iconst 0, 1) := dk_3 (dk_at dksX9_isBeside_0 0 rfl rfl)
theorem dX9_isBeside_1 : decode cX9_isBeside 1 = .ok (.istore_n 2, 1) := dk_61 (dk_at dksX9_isBeside_0 1 rfl rfl)
theorem dX9_isBeside_2 : decode cX9_isBeside 2 = .ok (.iload_n 2, 1) := dk_28 (dk_at dksX9_isBeside_0 2 rfl rfl)
theorem dX9_isBeside_3 : decode cX9_isBeside 3 = .ok (.iconst 4, 1) := dk_7 (dk_at dksX9_isBeside_0 3 rfl rfl)
theorem dX9_isBeside_4 : decode cX9_isBeside 4 = .ok (.if_icmp .ge 32, 3) := dk_162 0 32 (dk_at dksX9_isBeside_0 4 rfl rfl)
theorem dX9_isBeside_7 : decode cX9_isBeside 7 = .ok (.aload_n 0, 1) := dk_42 (dk_at dksX9_isBeside_0 7 rfl rfl)
theorem dX9_isBeside_8 : decode cX9_isBeside 8 = .ok (.iload_n 1, 1) := dk_27 (dk_at dksX9_isBeside_0 8 rfl rfl)
theorem dX9_isBeside_9 : decode cX9_isBeside 9 = .ok (.iload_n 2, 1) := dk_28 (dk_at dksX9_isBeside_0 9 rfl rfl)
theorem dX9_isBeside_10 : decode cX9_isBeside 10 = .ok (.invokevirtual 122, 3) := dk_182 0 122 (dk_at dksX9_isBeside_0 10 rfl rfl)
theorem dX9_isBeside_13 : decode cX9_isBeside 13 = .ok (.istore_n 3, 1) := dk_62 (dk_at dksX9_isBeside_0 13 rfl rfl)
theorem dX9_isBeside_14 : decode cX9_isBeside 14 = .ok (.iload_n 3, 1) := dk_29 (dk_at dksX9_isBeside_0 14 rfl rfl)
theorem dX9_isBeside_15 : decode cX9_isBeside 15 = .ok (.iconst (-1), 1) := dk_2 (dk_at dksX9_isBeside_0 15 rfl rfl)
theorem dX9_isBeside_16 : decode cX9_isBeside 16 = .ok (.if_icmp .eq 14, 3) := dk_159 0 14 (dk_at dksX9_isBeside_0 16 rfl rfl)
theorem dX9_isBeside_19 : decode cX9_isBeside 19 = .ok (.aload_n 0, 1) := dk_42 (dk_at dksX9_isBeside_0 19 rfl rfl)
theorem dX9_isBeside_20 : decode cX9_isBeside 20 = .ok (.getfield 46, 3) := dk_180 0 46 (dk_at dksX9_isBeside_0 20 rfl rfl)
theorem dX9_isBeside_23 : decode cX9_isBeside 23 = .ok (.iload_n 3, 1) := dk_29 (dk_at dksX9_isBeside_0 23 rfl rfl)
theorem dX9_isBeside_24 : decode cX9_isBeside 24 = .ok (.baload, 1) := dk_51 (dk_at dksX9_isBeside_1 0 rfl rfl)
theorem dX9_isBeside_25 : decode cX9_isBeside 25 = .ok (.ifCond .eq 5, 3) := dk_153 0 5 (dk_at dksX9_isBeside_1 1 rfl rfl)
theorem dX9_isBeside_28 : decode cX9_isBeside 28 = .ok (.iconst 1, 1) := dk_4 (dk_at dksX9_isBeside_1 4 rfl rfl)
theorem dX9_isBeside_29 : decode cX9_isBeside 29 = .ok (.ireturn, 1) := dk_172 (dk_at dksX9_isBeside_1 5 rfl rfl)
theorem dX9_isBeside_30 : decode cX9_isBeside 30 = .ok (.iinc 2 1, 3) := dk_132 2 1 (dk_at dksX9_isBeside_1 6 rfl rfl)
theorem dX9_isBeside_33 : decode cX9_isBeside 33 = .ok (.goto (-31), 3) := dk_167 255 225 (dk_at dksX9_isBeside_1 9 rfl rfl)
theorem dX9_isBeside_36 : decode cX9_isBeside 36 = .ok (.iconst 0, 1) := dk_3 (dk_at dksX9_isBeside_1 12 rfl rfl)
theorem dX9_isBeside_37 : decode cX9_isBeside 37 = .ok (.ireturn, 1) := dk_172 (dk_at dksX9_isBeside_1 13 rfl rfl)
abbrev cX9_canBe : ByteArray := prog_16_method_121_code
def yX9_canBe : MethodName := ⟨RX9, "canBe", "(II)I"⟩
def dkwX9_canBe_2 : List UInt8 := [182, 1, 154, 172]
abbrev dktX9_canBe_2 : List UInt8 := dkwX9_canBe_2 ++ []
def dkwX9_canBe_1 : List UInt8 := [184, 0, 88, 154, 0, 9, 42, 5, 182, 0, 181, 172, 42, 182, 1, 148, 42, 42, 27, 28, 182, 1, 181]
abbrev dktX9_canBe_1 : List UInt8 := dkwX9_canBe_1 ++ dktX9_canBe_2
def dkwX9_canBe_0 : List UInt8 := [42, 3, 181, 0, 77, 42, 27, 182, 1, 60, 154, 0, 9, 42, 4, 182, 0, 181, 172, 28, 3, 16, 60]
abbrev dktX9_canBe_0 : List UInt8 := dkwX9_canBe_0 ++ dktX9_canBe_1
theorem dksX9_canBe_0 : cX9_canBe.data.toList.drop 0 = dktX9_canBe_0 := by decide +kernel
theorem dksX9_canBe_1 : cX9_canBe.data.toList.drop 23 = dktX9_canBe_1 := dk_seg dksX9_canBe_0 23 rfl rfl
theorem dksX9_canBe_2 : cX9_canBe.data.toList.drop 46 = dktX9_canBe_2 := dk_seg dksX9_canBe_1 23 rfl rfl
theorem dX9_canBe_0 : decode cX9_canBe 0 = .ok (.aload_n 0, 1) := dk_42 (dk_at dksX9_canBe_0 0 rfl rfl)
theorem dX9_canBe_1 : decode cX9_canBe 1 = .ok (.iconst 0, 1) := dk_3 (dk_at dksX9_canBe_0 1 rfl rfl)
theorem dX9_canBe_2 : decode cX9_canBe 2 = .ok (.putfield 77, 3) := dk_181 0 77 (dk_at dksX9_canBe_0 2 rfl rfl)
theorem dX9_canBe_5 : decode cX9_canBe 5 = .ok (.aload_n 0, 1) := dk_42 (dk_at dksX9_canBe_0 5 rfl rfl)
theorem dX9_canBe_6 : decode cX9_canBe 6 = .ok (.iload_n 1, 1) := dk_27 (dk_at dksX9_canBe_0 6 rfl rfl)
theorem dX9_canBe_7 : decode cX9_canBe 7 = .ok (.invokevirtual 316, 3) := dk_182 1 60 (dk_at dksX9_canBe_0 7 rfl rfl)
theorem dX9_canBe_10 : decode cX9_canBe 10 = .ok (.ifCond .ne 9, 3) := dk_154 0 9 (dk_at dksX9_canBe_0 10 rfl rfl)
theorem dX9_canBe_13 : decode cX9_canBe 13 = .ok (.aload_n 0, 1) := dk_42 (dk_at dksX9_canBe_0 13 rfl rfl)
theorem dX9_canBe_14 : decode cX9_canBe 14 = .ok (.iconst 1, 1) := dk_4 (dk_at dksX9_canBe_0 14 rfl rfl)
theorem dX9_canBe_15 : decode cX9_canBe 15 = .ok (.invokevirtual 181, 3) := dk_182 0 181 (dk_at dksX9_canBe_0 15 rfl rfl)
theorem dX9_canBe_18 : decode cX9_canBe 18 = .ok (.ireturn, 1) := dk_172 (dk_at dksX9_canBe_0 18 rfl rfl)
theorem dX9_canBe_19 : decode cX9_canBe 19 = .ok (.iload_n 2, 1) := dk_28 (dk_at dksX9_canBe_0 19 rfl rfl)
theorem dX9_canBe_20 : decode cX9_canBe 20 = .ok (.iconst 0, 1) := dk_3 (dk_at dksX9_canBe_0 20 rfl rfl)
theorem dX9_canBe_21 : decode cX9_canBe 21 = .ok (.bipush 60, 2) := dk_16 60 (dk_at dksX9_canBe_0 21 rfl rfl)
theorem dX9_canBe_23 : decode cX9_canBe 23 = .ok (.invokestatic 88, 3) := dk_184 0 88 (dk_at dksX9_canBe_1 0 rfl rfl)
theorem dX9_canBe_26 : decode cX9_canBe 26 = .ok (.ifCond .ne 9, 3) := dk_154 0 9 (dk_at dksX9_canBe_1 3 rfl rfl)
theorem dX9_canBe_29 : decode cX9_canBe 29 = .ok (.aload_n 0, 1) := dk_42 (dk_at dksX9_canBe_1 6 rfl rfl)
theorem dX9_canBe_30 : decode cX9_canBe 30 = .ok (.iconst 2, 1) := dk_5 (dk_at dksX9_canBe_1 7 rfl rfl)
theorem dX9_canBe_31 : decode cX9_canBe 31 = .ok (.invokevirtual 181, 3) := dk_182 0 181 (dk_at dksX9_canBe_1 8 rfl rfl)
theorem dX9_canBe_34 : decode cX9_canBe 34 = .ok (.ireturn, 1) := dk_172 (dk_at dksX9_canBe_1 11 rfl rfl)
theorem dX9_canBe_35 : decode cX9_canBe 35 = .ok (.aload_n 0, 1) := dk_42 (dk_at dksX9_canBe_1 12 rfl rfl)
theorem dX9_canBe_36 : decode cX9_canBe 36 = .ok (.invokevirtual 404, 3) := dk_182 1 148 (dk_at dksX9_canBe_1 13 rfl rfl)
theorem dX9_canBe_39 : decode cX9_canBe 39 = .ok (.aload_n 0, 1) := dk_42 (dk_at dksX9_canBe_1 16 rfl rfl)
theorem dX9_canBe_40 : decode cX9_canBe 40 = .ok (.aload_n 0, 1) := dk_42 (dk_at dksX9_canBe_1 17 rfl rfl)
theorem dX9_canBe_41 : decode cX9_canBe 41 = .ok (.iload_n 1, 1) := dk_27 (dk_at dksX9_canBe_1 18 rfl rfl)
theorem dX9_canBe_42 : decode cX9_canBe 42 = .ok (.iload_n 2, 1) := dk_28 (dk_at dksX9_canBe_1 19 rfl rfl)
theorem dX9_canBe_43 : decode cX9_canBe 43 = .ok (.invokevirtual 437, 3) := dk_182 1 181 (dk_at dksX9_canBe_1 20 rfl rfl)
theorem dX9_canBe_46 : decode cX9_canBe 46 = .ok (.invokevirtual 410, 3) := dk_182 1 154 (dk_at dksX9_canBe_2 0 rfl rfl)
theorem dX9_canBe_49 : decode cX9_canBe 49 = .ok (.ireturn, 1) := dk_172 (dk_at dksX9_canBe_2 3 rfl rfl)
abbrev cX9_reachedIn : ByteArray := prog_16_method_120_code
def yX9_reachedIn : MethodName := ⟨RX9, "reachedIn", "(II)I"⟩
def dkwX9_reachedIn_2 : List UInt8 := [167, 0, 4, 3, 96, 62, 132, 4, 1, 167, 255, 226, 29, 172]
abbrev dktX9_reachedIn_2 : List UInt8 := dkwX9_reachedIn_2 ++ []
def dkwX9_reachedIn_1 : List UInt8 := [3, 54, 4, 21, 4, 42, 182, 0, 84, 162, 0, 27, 29, 42, 180, 0, 46, 21, 4, 51, 153, 0, 7, 4]
abbrev dktX9_reachedIn_1 : List UInt8 := dkwX9_reachedIn_1 ++ dktX9_reachedIn_2
def dkwX9_reachedIn_0 : List UInt8 := [42, 27, 182, 1, 172, 3, 62, 29, 28, 162, 0, 13, 42, 182, 1, 169, 132, 3, 1, 167, 255, 244, 3, 62]
abbrev dktX9_reachedIn_0 : List UInt8 := dkwX9_reachedIn_0 ++ dktX9_reachedIn_1
theorem dksX9_reachedIn_0 : cX9_reachedIn.data.toList.drop 0 = dktX9_reachedIn_0 := by decide +kernel
theorem dksX9_reachedIn_1 : cX9_reachedIn.data.toList.drop 24 = dktX9_reachedIn_1 := dk_seg dksX9_reachedIn_0 24 rfl rfl
theorem dksX9_reachedIn_2 : cX9_reachedIn.data.toList.drop 48 = dktX9_reachedIn_2 := dk_seg dksX9_reachedIn_1 24 rfl rfl
theorem dX9_reachedIn_0 : decode cX9_reachedIn 0 = .ok (.aload_n 0, 1) := dk_42 (dk_at dksX9_reachedIn_0 0 rfl rfl)
theorem dX9_reachedIn_1 : decode cX9_reachedIn 1 = .ok (.iload_n 1, 1) := dk_27 (dk_at dksX9_reachedIn_0 1 rfl rfl)
theorem dX9_reachedIn_2 : decode cX9_reachedIn 2 = .ok (.invokevirtual 428, 3) := dk_182 1 172 (dk_at dksX9_reachedIn_0 2 rfl rfl)
theorem dX9_reachedIn_5 : decode cX9_reachedIn 5 = .ok (.iconst 0, 1) := dk_3 (dk_at dksX9_reachedIn_0 5 rfl rfl)
theorem dX9_reachedIn_6 : decode cX9_reachedIn 6 = .ok (.istore_n 3, 1) := dk_62 (dk_at dksX9_reachedIn_0 6 rfl rfl)
theorem dX9_reachedIn_7 : decode cX9_reachedIn 7 = .ok (.iload_n 3, 1) := dk_29 (dk_at dksX9_reachedIn_0 7 rfl rfl)
theorem dX9_reachedIn_8 : decode cX9_reachedIn 8 = .ok (.iload_n 2, 1) := dk_28 (dk_at dksX9_reachedIn_0 8 rfl rfl)
theorem dX9_reachedIn_9 : decode cX9_reachedIn 9 = .ok (.if_icmp .ge 13, 3) := dk_162 0 13 (dk_at dksX9_reachedIn_0 9 rfl rfl)
theorem dX9_reachedIn_12 : decode cX9_reachedIn 12 = .ok (.aload_n 0, 1) := dk_42 (dk_at dksX9_reachedIn_0 12 rfl rfl)
theorem dX9_reachedIn_13 : decode cX9_reachedIn 13 = .ok (.invokevirtual 425, 3) := dk_182 1 169 (dk_at dksX9_reachedIn_0 13 rfl rfl)
theorem dX9_reachedIn_16 : decode cX9_reachedIn 16 = .ok (.iinc 3 1, 3) := dk_132 3 1 (dk_at dksX9_reachedIn_0 16 rfl rfl)
theorem dX9_reachedIn_19 : decode cX9_reachedIn 19 = .ok (.goto (-12), 3) := dk_167 255 244 (dk_at dksX9_reachedIn_0 19 rfl rfl)
theorem dX9_reachedIn_22 : decode cX9_reachedIn 22 = .ok (.iconst 0, 1) := dk_3 (dk_at dksX9_reachedIn_0 22 rfl rfl)
theorem dX9_reachedIn_23 : decode cX9_reachedIn 23 = .ok (.istore_n 3, 1) := dk_62 (dk_at dksX9_reachedIn_0 23 rfl rfl)
theorem dX9_reachedIn_24 : decode cX9_reachedIn 24 = .ok (.iconst 0, 1) := dk_3 (dk_at dksX9_reachedIn_1 0 rfl rfl)
theorem dX9_reachedIn_25 : decode cX9_reachedIn 25 = .ok (.istore 4, 2) := dk_54 4 (dk_at dksX9_reachedIn_1 1 rfl rfl)
theorem dX9_reachedIn_27 : decode cX9_reachedIn 27 = .ok (.iload 4, 2) := dk_21 4 (dk_at dksX9_reachedIn_1 3 rfl rfl)
theorem dX9_reachedIn_29 : decode cX9_reachedIn 29 = .ok (.aload_n 0, 1) := dk_42 (dk_at dksX9_reachedIn_1 5 rfl rfl)
theorem dX9_reachedIn_30 : decode cX9_reachedIn 30 = .ok (.invokevirtual 84, 3) := dk_182 0 84 (dk_at dksX9_reachedIn_1 6 rfl rfl)
theorem dX9_reachedIn_33 : decode cX9_reachedIn 33 = .ok (.if_icmp .ge 27, 3) := dk_162 0 27 (dk_at dksX9_reachedIn_1 9 rfl rfl)
theorem dX9_reachedIn_36 : decode cX9_reachedIn 36 = .ok (.iload_n 3, 1) := dk_29 (dk_at dksX9_reachedIn_1 12 rfl rfl)
theorem dX9_reachedIn_37 : decode cX9_reachedIn 37 = .ok (.aload_n 0, 1) := dk_42 (dk_at dksX9_reachedIn_1 13 rfl rfl)
theorem dX9_reachedIn_38 : decode cX9_reachedIn 38 = .ok (.getfield 46, 3) := dk_180 0 46 (dk_at dksX9_reachedIn_1 14 rfl rfl)
theorem dX9_reachedIn_41 : decode cX9_reachedIn 41 = .ok (.iload 4, 2) := dk_21 4 (dk_at dksX9_reachedIn_1 17 rfl rfl)
theorem dX9_reachedIn_43 : decode cX9_reachedIn 43 = .ok (.baload, 1) := dk_51 (dk_at dksX9_reachedIn_1 19 rfl rfl)
theorem dX9_reachedIn_44 : decode cX9_reachedIn 44 = .ok (.ifCond .eq 7, 3) := dk_153 0 7 (dk_at dksX9_reachedIn_1 20 rfl rfl)
theorem dX9_reachedIn_47 : decode cX9_reachedIn 47 = .ok (.iconst 1, 1) := dk_4 (dk_at dksX9_reachedIn_1 23 rfl rfl)
theorem dX9_reachedIn_48 : decode cX9_reachedIn 48 = .ok (.goto 4, 3) := dk_167 0 4 (dk_at dksX9_reachedIn_2 0 rfl rfl)
theorem dX9_reachedIn_51 : decode cX9_reachedIn 51 = .ok (.iconst 0, 1) := dk_3 (dk_at dksX9_reachedIn_2 3 rfl rfl)
theorem dX9_reachedIn_52 : decode cX9_reachedIn 52 = .ok (.iadd, 1) := dk_96 (dk_at dksX9_reachedIn_2 4 rfl rfl)
theorem dX9_reachedIn_53 : decode cX9_reachedIn 53 = .ok (.istore_n 3, 1) := dk_62 (dk_at dksX9_reachedIn_2 5 rfl rfl)
theorem dX9_reachedIn_54 : decode cX9_reachedIn 54 = .ok (.iinc 4 1, 3) := dk_132 4 1 (dk_at dksX9_reachedIn_2 6 rfl rfl)
theorem dX9_reachedIn_57 : decode cX9_reachedIn 57 = .ok (.goto (-30), 3) := dk_167 255 226 (dk_at dksX9_reachedIn_2 9 rfl rfl)
theorem dX9_reachedIn_60 : decode cX9_reachedIn 60 = .ok (.iload_n 3, 1) := dk_29 (dk_at dksX9_reachedIn_2 12 rfl rfl)
theorem dX9_reachedIn_61 : decode cX9_reachedIn 61 = .ok (.ireturn, 1) := dk_172 (dk_at dksX9_reachedIn_2 13 rfl rfl)
abbrev cX9_ifStepped : ByteArray := prog_16_method_123_code
def yX9_ifStepped : MethodName := ⟨RX9, "ifStepped", "(II)I"⟩
def dkwX9_ifStepped_3 : List UInt8 := [160, 0, 7, 4, 167, 0, 4, 5, 182, 1, 154, 172]
abbrev dktX9_ifStepped_3 : List UInt8 := dkwX9_ifStepped_3 ++ []
def dkwX9_ifStepped_2 : List UInt8 := [42, 27, 3, 182, 0, 80, 28, 182, 0, 122, 62, 42, 182, 1, 148, 42, 42, 29, 4, 182, 1, 151, 4]
abbrev dktX9_ifStepped_2 : List UInt8 := dkwX9_ifStepped_2 ++ dktX9_ifStepped_3
def dkwX9_ifStepped_1 : List UInt8 := [184, 0, 88, 154, 0, 9, 42, 5, 182, 0, 181, 172, 42, 27, 28, 182, 1, 184, 158, 0, 5, 3, 172, 42]
abbrev dktX9_ifStepped_1 : List UInt8 := dkwX9_ifStepped_1 ++ dktX9_ifStepped_2
def dkwX9_ifStepped_0 : List UInt8 := [42, 3, 181, 0, 77, 42, 27, 182, 1, 60, 154, 0, 9, 42, 4, 182, 0, 181, 172, 28, 3, 6]
abbrev dktX9_ifStepped_0 : List UInt8 := dkwX9_ifStepped_0 ++ dktX9_ifStepped_1
theorem dksX9_ifStepped_0 : cX9_ifStepped.data.toList.drop 0 = dktX9_ifStepped_0 := by decide +kernel
theorem dksX9_ifStepped_1 : cX9_ifStepped.data.toList.drop 22 = dktX9_ifStepped_1 := dk_seg dksX9_ifStepped_0 22 rfl rfl
theorem dksX9_ifStepped_2 : cX9_ifStepped.data.toList.drop 46 = dktX9_ifStepped_2 := dk_seg dksX9_ifStepped_1 24 rfl rfl
theorem dksX9_ifStepped_3 : cX9_ifStepped.data.toList.drop 69 = dktX9_ifStepped_3 := dk_seg dksX9_ifStepped_2 23 rfl rfl
theorem dX9_ifStepped_0 : decode cX9_ifStepped 0 = .ok (.aload_n 0, 1) := dk_42 (dk_at dksX9_ifStepped_0 0 rfl rfl)
theorem dX9_ifStepped_1 : decode cX9_ifStepped 1 = .ok (.iconst 0, 1) := dk_3 (dk_at dksX9_ifStepped_0 1 rfl rfl)
theorem dX9_ifStepped_2 : decode cX9_ifStepped 2 = .ok (.putfield 77, 3) := dk_181 0 77 (dk_at dksX9_ifStepped_0 2 rfl rfl)
theorem dX9_ifStepped_5 : decode cX9_ifStepped 5 = .ok (.aload_n 0, 1) := dk_42 (dk_at dksX9_ifStepped_0 5 rfl rfl)
theorem dX9_ifStepped_6 : decode cX9_ifStepped 6 = .ok (.iload_n 1, 1) := dk_27 (dk_at dksX9_ifStepped_0 6 rfl rfl)
theorem dX9_ifStepped_7 : decode cX9_ifStepped 7 = .ok (.invokevirtual 316, 3) := dk_182 1 60 (dk_at dksX9_ifStepped_0 7 rfl rfl)
theorem dX9_ifStepped_10 : decode cX9_ifStepped 10 = .ok (.ifCond .ne 9, 3) := dk_154 0 9 (dk_at dksX9_ifStepped_0 10 rfl rfl)
theorem dX9_ifStepped_13 : decode cX9_ifStepped 13 = .ok (.aload_n 0, 1) := dk_42 (dk_at dksX9_ifStepped_0 13 rfl rfl)
theorem dX9_ifStepped_14 : decode cX9_ifStepped 14 = .ok (.iconst 1, 1) := dk_4 (dk_at dksX9_ifStepped_0 14 rfl rfl)
theorem dX9_ifStepped_15 : decode cX9_ifStepped 15 = .ok (.invokevirtual 181, 3) := dk_182 0 181 (dk_at dksX9_ifStepped_0 15 rfl rfl)
theorem dX9_ifStepped_18 : decode cX9_ifStepped 18 = .ok (.ireturn, 1) := dk_172 (dk_at dksX9_ifStepped_0 18 rfl rfl)
theorem dX9_ifStepped_19 : decode cX9_ifStepped 19 = .ok (.iload_n 2, 1) := dk_28 (dk_at dksX9_ifStepped_0 19 rfl rfl)
theorem dX9_ifStepped_20 : decode cX9_ifStepped 20 = .ok (.iconst 0, 1) := dk_3 (dk_at dksX9_ifStepped_0 20 rfl rfl)
theorem dX9_ifStepped_21 : decode cX9_ifStepped 21 = .ok (.iconst 3, 1) := dk_6 (dk_at dksX9_ifStepped_0 21 rfl rfl)
theorem dX9_ifStepped_22 : decode cX9_ifStepped 22 = .ok (.invokestatic 88, 3) := dk_184 0 88 (dk_at dksX9_ifStepped_1 0 rfl rfl)
theorem dX9_ifStepped_25 : decode cX9_ifStepped 25 = .ok (.ifCond .ne 9, 3) := dk_154 0 9 (dk_at dksX9_ifStepped_1 3 rfl rfl)
theorem dX9_ifStepped_28 : decode cX9_ifStepped 28 = .ok (.aload_n 0, 1) := dk_42 (dk_at dksX9_ifStepped_1 6 rfl rfl)
theorem dX9_ifStepped_29 : decode cX9_ifStepped 29 = .ok (.iconst 2, 1) := dk_5 (dk_at dksX9_ifStepped_1 7 rfl rfl)
theorem dX9_ifStepped_30 : decode cX9_ifStepped 30 = .ok (.invokevirtual 181, 3) := dk_182 0 181 (dk_at dksX9_ifStepped_1 8 rfl rfl)
theorem dX9_ifStepped_33 : decode cX9_ifStepped 33 = .ok (.ireturn, 1) := dk_172 (dk_at dksX9_ifStepped_1 11 rfl rfl)
theorem dX9_ifStepped_34 : decode cX9_ifStepped 34 = .ok (.aload_n 0, 1) := dk_42 (dk_at dksX9_ifStepped_1 12 rfl rfl)
theorem dX9_ifStepped_35 : decode cX9_ifStepped 35 = .ok (.iload_n 1, 1) := dk_27 (dk_at dksX9_ifStepped_1 13 rfl rfl)
theorem dX9_ifStepped_36 : decode cX9_ifStepped 36 = .ok (.iload_n 2, 1) := dk_28 (dk_at dksX9_ifStepped_1 14 rfl rfl)
theorem dX9_ifStepped_37 : decode cX9_ifStepped 37 = .ok (.invokevirtual 440, 3) := dk_182 1 184 (dk_at dksX9_ifStepped_1 15 rfl rfl)
theorem dX9_ifStepped_40 : decode cX9_ifStepped 40 = .ok (.ifCond .le 5, 3) := dk_158 0 5 (dk_at dksX9_ifStepped_1 18 rfl rfl)
theorem dX9_ifStepped_43 : decode cX9_ifStepped 43 = .ok (.iconst 0, 1) := dk_3 (dk_at dksX9_ifStepped_1 21 rfl rfl)
theorem dX9_ifStepped_44 : decode cX9_ifStepped 44 = .ok (.ireturn, 1) := dk_172 (dk_at dksX9_ifStepped_1 22 rfl rfl)
theorem dX9_ifStepped_45 : decode cX9_ifStepped 45 = .ok (.aload_n 0, 1) := dk_42 (dk_at dksX9_ifStepped_1 23 rfl rfl)
theorem dX9_ifStepped_46 : decode cX9_ifStepped 46 = .ok (.aload_n 0, 1) := dk_42 (dk_at dksX9_ifStepped_2 0 rfl rfl)
theorem dX9_ifStepped_47 : decode cX9_ifStepped 47 = .ok (.iload_n 1, 1) := dk_27 (dk_at dksX9_ifStepped_2 1 rfl rfl)
theorem dX9_ifStepped_48 : decode cX9_ifStepped 48 = .ok (.iconst 0, 1) := dk_3 (dk_at dksX9_ifStepped_2 2 rfl rfl)
theorem dX9_ifStepped_49 : decode cX9_ifStepped 49 = .ok (.invokevirtual 80, 3) := dk_182 0 80 (dk_at dksX9_ifStepped_2 3 rfl rfl)
theorem dX9_ifStepped_52 : decode cX9_ifStepped 52 = .ok (.iload_n 2, 1) := dk_28 (dk_at dksX9_ifStepped_2 6 rfl rfl)
theorem dX9_ifStepped_53 : decode cX9_ifStepped 53 = .ok (.invokevirtual 122, 3) := dk_182 0 122 (dk_at dksX9_ifStepped_2 7 rfl rfl)
theorem dX9_ifStepped_56 : decode cX9_ifStepped 56 = .ok (.istore_n 3, 1) := dk_62 (dk_at dksX9_ifStepped_2 10 rfl rfl)
theorem dX9_ifStepped_57 : decode cX9_ifStepped 57 = .ok (.aload_n 0, 1) := dk_42 (dk_at dksX9_ifStepped_2 11 rfl rfl)
theorem dX9_ifStepped_58 : decode cX9_ifStepped 58 = .ok (.invokevirtual 404, 3) := dk_182 1 148 (dk_at dksX9_ifStepped_2 12 rfl rfl)
theorem dX9_ifStepped_61 : decode cX9_ifStepped 61 = .ok (.aload_n 0, 1) := dk_42 (dk_at dksX9_ifStepped_2 15 rfl rfl)
theorem dX9_ifStepped_62 : decode cX9_ifStepped 62 = .ok (.aload_n 0, 1) := dk_42 (dk_at dksX9_ifStepped_2 16 rfl rfl)
theorem dX9_ifStepped_63 : decode cX9_ifStepped 63 = .ok (.iload_n 3, 1) := dk_29 (dk_at dksX9_ifStepped_2 17 rfl rfl)
theorem dX9_ifStepped_64 : decode cX9_ifStepped 64 = .ok (.iconst 1, 1) := dk_4 (dk_at dksX9_ifStepped_2 18 rfl rfl)
theorem dX9_ifStepped_65 : decode cX9_ifStepped 65 = .ok (.invokevirtual 407, 3) := dk_182 1 151 (dk_at dksX9_ifStepped_2 19 rfl rfl)
theorem dX9_ifStepped_68 : decode cX9_ifStepped 68 = .ok (.iconst 1, 1) := dk_4 (dk_at dksX9_ifStepped_2 22 rfl rfl)
theorem dX9_ifStepped_69 : decode cX9_ifStepped 69 = .ok (.if_icmp .ne 7, 3) := dk_160 0 7 (dk_at dksX9_ifStepped_3 0 rfl rfl)
theorem dX9_ifStepped_72 : decode cX9_ifStepped 72 = .ok (.iconst 1, 1) := dk_4 (dk_at dksX9_ifStepped_3 3 rfl rfl)
theorem dX9_ifStepped_73 : decode cX9_ifStepped 73 = .ok (.goto 4, 3) := dk_167 0 4 (dk_at dksX9_ifStepped_3 4 rfl rfl)
theorem dX9_ifStepped_76 : decode cX9_ifStepped 76 = .ok (.iconst 2, 1) := dk_5 (dk_at dksX9_ifStepped_3 7 rfl rfl)
theorem dX9_ifStepped_77 : decode cX9_ifStepped 77 = .ok (.invokevirtual 410, 3) := dk_182 1 154 (dk_at dksX9_ifStepped_3 8 rfl rfl)
theorem dX9_ifStepped_80 : decode cX9_ifStepped 80 = .ok (.ireturn, 1) := dk_172 (dk_at dksX9_ifStepped_3 11 rfl rfl)
abbrev cX9_nearest : ByteArray := prog_16_method_124_code
def yX9_nearest : MethodName := ⟨RX9, "nearest", "(I)I"⟩
def dkwX9_nearest_3 : List UInt8 := [159, 0, 15, 21, 5, 29, 162, 0, 9, 21, 4, 61, 21, 5, 62, 132, 4, 1, 167, 255, 195, 28, 172]
abbrev dktX9_nearest_3 : List UInt8 := dkwX9_nearest_3 ++ []
def dkwX9_nearest_2 : List UInt8 := [154, 0, 18, 42, 27, 42, 21, 4, 6, 182, 0, 160, 182, 1, 178, 167, 0, 4, 2, 54, 5, 21, 5, 2]
abbrev dktX9_nearest_2 : List UInt8 := dkwX9_nearest_2 ++ dktX9_nearest_3
def dkwX9_nearest_1 : List UInt8 := [3, 54, 4, 21, 4, 42, 180, 0, 7, 16, 6, 46, 162, 0, 55, 42, 21, 4, 5, 182, 0, 160]
abbrev dktX9_nearest_1 : List UInt8 := dkwX9_nearest_1 ++ dktX9_nearest_2
def dkwX9_nearest_0 : List UInt8 := [42, 3, 181, 0, 77, 42, 27, 182, 1, 60, 154, 0, 9, 42, 4, 182, 0, 181, 172, 2, 61, 16, 61, 62]
abbrev dktX9_nearest_0 : List UInt8 := dkwX9_nearest_0 ++ dktX9_nearest_1
theorem dksX9_nearest_0 : cX9_nearest.data.toList.drop 0 = dktX9_nearest_0 := by decide +kernel
theorem dksX9_nearest_1 : cX9_nearest.data.toList.drop 24 = dktX9_nearest_1 := dk_seg dksX9_nearest_0 24 rfl rfl
theorem dksX9_nearest_2 : cX9_nearest.data.toList.drop 46 = dktX9_nearest_2 := dk_seg dksX9_nearest_1 22 rfl rfl
theorem dksX9_nearest_3 : cX9_nearest.data.toList.drop 70 = dktX9_nearest_3 := dk_seg dksX9_nearest_2 24 rfl rfl
theorem dX9_nearest_0 : decode cX9_nearest 0 = .ok (.aload_n 0, 1) := dk_42 (dk_at dksX9_nearest_0 0 rfl rfl)
theorem dX9_nearest_1 : decode cX9_nearest 1 = .ok (.iconst 0, 1) := dk_3 (dk_at dksX9_nearest_0 1 rfl rfl)
theorem dX9_nearest_2 : decode cX9_nearest 2 = .ok (.putfield 77, 3) := dk_181 0 77 (dk_at dksX9_nearest_0 2 rfl rfl)
theorem dX9_nearest_5 : decode cX9_nearest 5 = .ok (.aload_n 0, 1) := dk_42 (dk_at dksX9_nearest_0 5 rfl rfl)
theorem dX9_nearest_6 : decode cX9_nearest 6 = .ok (.iload_n 1, 1) := dk_27 (dk_at dksX9_nearest_0 6 rfl rfl)
theorem dX9_nearest_7 : decode cX9_nearest 7 = .ok (.invokevirtual 316, 3) := dk_182 1 60 (dk_at dksX9_nearest_0 7 rfl rfl)
theorem dX9_nearest_10 : decode cX9_nearest 10 = .ok (.ifCond .ne 9, 3) := dk_154 0 9 (dk_at dksX9_nearest_0 10 rfl rfl)
theorem dX9_nearest_13 : decode cX9_nearest 13 = .ok (.aload_n 0, 1) := dk_42 (dk_at dksX9_nearest_0 13 rfl rfl)
theorem dX9_nearest_14 : decode cX9_nearest 14 = .ok (.iconst 1, 1) := dk_4 (dk_at dksX9_nearest_0 14 rfl rfl)
theorem dX9_nearest_15 : decode cX9_nearest 15 = .ok (.invokevirtual 181, 3) := dk_182 0 181 (dk_at dksX9_nearest_0 15 rfl rfl)
theorem dX9_nearest_18 : decode cX9_nearest 18 = .ok (.ireturn, 1) := dk_172 (dk_at dksX9_nearest_0 18 rfl rfl)
theorem dX9_nearest_19 : decode cX9_nearest 19 = .ok (.iconst (-1), 1) := dk_2 (dk_at dksX9_nearest_0 19 rfl rfl)
theorem dX9_nearest_20 : decode cX9_nearest 20 = .ok (.istore_n 2, 1) := dk_61 (dk_at dksX9_nearest_0 20 rfl rfl)
theorem dX9_nearest_21 : decode cX9_nearest 21 = .ok (.bipush 61, 2) := dk_16 61 (dk_at dksX9_nearest_0 21 rfl rfl)
theorem dX9_nearest_23 : decode cX9_nearest 23 = .ok (.istore_n 3, 1) := dk_62 (dk_at dksX9_nearest_0 23 rfl rfl)
theorem dX9_nearest_24 : decode cX9_nearest 24 = .ok (.iconst 0, 1) := dk_3 (dk_at dksX9_nearest_1 0 rfl rfl)
theorem dX9_nearest_25 : decode cX9_nearest 25 = .ok (.istore 4, 2) := dk_54 4 (dk_at dksX9_nearest_1 1 rfl rfl)
theorem dX9_nearest_27 : decode cX9_nearest 27 = .ok (.iload 4, 2) := dk_21 4 (dk_at dksX9_nearest_1 3 rfl rfl)
theorem dX9_nearest_29 : decode cX9_nearest 29 = .ok (.aload_n 0, 1) := dk_42 (dk_at dksX9_nearest_1 5 rfl rfl)
theorem dX9_nearest_30 : decode cX9_nearest 30 = .ok (.getfield 7, 3) := dk_180 0 7 (dk_at dksX9_nearest_1 6 rfl rfl)
theorem dX9_nearest_33 : decode cX9_nearest 33 = .ok (.bipush 6, 2) := dk_16 6 (dk_at dksX9_nearest_1 9 rfl rfl)
theorem dX9_nearest_35 : decode cX9_nearest 35 = .ok (.iaload, 1) := dk_46 (dk_at dksX9_nearest_1 11 rfl rfl)
theorem dX9_nearest_36 : decode cX9_nearest 36 = .ok (.if_icmp .ge 55, 3) := dk_162 0 55 (dk_at dksX9_nearest_1 12 rfl rfl)
theorem dX9_nearest_39 : decode cX9_nearest 39 = .ok (.aload_n 0, 1) := dk_42 (dk_at dksX9_nearest_1 15 rfl rfl)
theorem dX9_nearest_40 : decode cX9_nearest 40 = .ok (.iload 4, 2) := dk_21 4 (dk_at dksX9_nearest_1 16 rfl rfl)
theorem dX9_nearest_42 : decode cX9_nearest 42 = .ok (.iconst 2, 1) := dk_5 (dk_at dksX9_nearest_1 18 rfl rfl)
theorem dX9_nearest_43 : decode cX9_nearest 43 = .ok (.invokevirtual 160, 3) := dk_182 0 160 (dk_at dksX9_nearest_1 19 rfl rfl)
theorem dX9_nearest_46 : decode cX9_nearest 46 = .ok (.ifCond .ne 18, 3) := dk_154 0 18 (dk_at dksX9_nearest_2 0 rfl rfl)
theorem dX9_nearest_49 : decode cX9_nearest 49 = .ok (.aload_n 0, 1) := dk_42 (dk_at dksX9_nearest_2 3 rfl rfl)
theorem dX9_nearest_50 : decode cX9_nearest 50 = .ok (.iload_n 1, 1) := dk_27 (dk_at dksX9_nearest_2 4 rfl rfl)
theorem dX9_nearest_51 : decode cX9_nearest 51 = .ok (.aload_n 0, 1) := dk_42 (dk_at dksX9_nearest_2 5 rfl rfl)
theorem dX9_nearest_52 : decode cX9_nearest 52 = .ok (.iload 4, 2) := dk_21 4 (dk_at dksX9_nearest_2 6 rfl rfl)
theorem dX9_nearest_54 : decode cX9_nearest 54 = .ok (.iconst 3, 1) := dk_6 (dk_at dksX9_nearest_2 8 rfl rfl)
theorem dX9_nearest_55 : decode cX9_nearest 55 = .ok (.invokevirtual 160, 3) := dk_182 0 160 (dk_at dksX9_nearest_2 9 rfl rfl)
theorem dX9_nearest_58 : decode cX9_nearest 58 = .ok (.invokevirtual 434, 3) := dk_182 1 178 (dk_at dksX9_nearest_2 12 rfl rfl)
theorem dX9_nearest_61 : decode cX9_nearest 61 = .ok (.goto 4, 3) := dk_167 0 4 (dk_at dksX9_nearest_2 15 rfl rfl)
theorem dX9_nearest_64 : decode cX9_nearest 64 = .ok (.iconst (-1), 1) := dk_2 (dk_at dksX9_nearest_2 18 rfl rfl)
theorem dX9_nearest_65 : decode cX9_nearest 65 = .ok (.istore 5, 2) := dk_54 5 (dk_at dksX9_nearest_2 19 rfl rfl)
theorem dX9_nearest_67 : decode cX9_nearest 67 = .ok (.iload 5, 2) := dk_21 5 (dk_at dksX9_nearest_2 21 rfl rfl)
theorem dX9_nearest_69 : decode cX9_nearest 69 = .ok (.iconst (-1), 1) := dk_2 (dk_at dksX9_nearest_2 23 rfl rfl)
theorem dX9_nearest_70 : decode cX9_nearest 70 = .ok (.if_icmp .eq 15, 3) := dk_159 0 15 (dk_at dksX9_nearest_3 0 rfl rfl)
theorem dX9_nearest_73 : decode cX9_nearest 73 = .ok (.iload 5, 2) := dk_21 5 (dk_at dksX9_nearest_3 3 rfl rfl)
theorem dX9_nearest_75 : decode cX9_nearest 75 = .ok (.iload_n 3, 1) := dk_29 (dk_at dksX9_nearest_3 5 rfl rfl)
theorem dX9_nearest_76 : decode cX9_nearest 76 = .ok (.if_icmp .ge 9, 3) := dk_162 0 9 (dk_at dksX9_nearest_3 6 rfl rfl)
theorem dX9_nearest_79 : decode cX9_nearest 79 = .ok (.iload 4, 2) := dk_21 4 (dk_at dksX9_nearest_3 9 rfl rfl)
theorem dX9_nearest_81 : decode cX9_nearest 81 = .ok (.istore_n 2, 1) := dk_61 (dk_at dksX9_nearest_3 11 rfl rfl)
theorem dX9_nearest_82 : decode cX9_nearest 82 = .ok (.iload 5, 2) := dk_21 5 (dk_at dksX9_nearest_3 12 rfl rfl)
theorem dX9_nearest_84 : decode cX9_nearest 84 = .ok (.istore_n 3, 1) := dk_62 (dk_at dksX9_nearest_3 14 rfl rfl)
theorem dX9_nearest_85 : decode cX9_nearest 85 = .ok (.iinc 4 1, 3) := dk_132 4 1 (dk_at dksX9_nearest_3 15 rfl rfl)
theorem dX9_nearest_88 : decode cX9_nearest 88 = .ok (.goto (-61), 3) := dk_167 255 195 (dk_at dksX9_nearest_3 18 rfl rfl)
theorem dX9_nearest_91 : decode cX9_nearest 91 = .ok (.iload_n 2, 1) := dk_28 (dk_at dksX9_nearest_3 21 rfl rfl)
theorem dX9_nearest_92 : decode cX9_nearest 92 = .ok (.ireturn, 1) := dk_172 (dk_at dksX9_nearest_3 22 rfl rfl)
abbrev cX9_refusals : ByteArray := prog_16_method_125_code
def yX9_refusals : MethodName := ⟨RX9, "refusals", "(I)I"⟩
def dkwX9_refusals_1 : List UInt8 := [42, 4, 182, 0, 181, 172]
abbrev dktX9_refusals_1 : List UInt8 := dkwX9_refusals_1 ++ []
def dkwX9_refusals_0 : List UInt8 := [42, 3, 181, 0, 77, 27, 4, 16, 8, 184, 0, 88, 153, 0, 12, 42, 180, 0, 26, 27, 46, 167, 0, 8]
abbrev dktX9_refusals_0 : List UInt8 := dkwX9_refusals_0 ++ dktX9_refusals_1
theorem dksX9_refusals_0 : cX9_refusals.data.toList.drop 0 = dktX9_refusals_0 := by decide +kernel
theorem dksX9_refusals_1 : cX9_refusals.data.toList.drop 24 = dktX9_refusals_1 := dk_seg dksX9_refusals_0 24 rfl rfl
theorem dX9_refusals_0 : decode cX9_refusals 0 = .ok (.aload_n 0, 1) := dk_42 (dk_at dksX9_refusals_0 0 rfl rfl)
theorem dX9_refusals_1 : decode cX9_refusals 1 = .ok (.iconst 0, 1) := dk_3 (dk_at dksX9_refusals_0 1 rfl rfl)
theorem dX9_refusals_2 : decode cX9_refusals 2 = .ok (.putfield 77, 3) := dk_181 0 77 (dk_at dksX9_refusals_0 2 rfl rfl)
theorem dX9_refusals_5 : decode cX9_refusals 5 = .ok (.iload_n 1, 1) := dk_27 (dk_at dksX9_refusals_0 5 rfl rfl)
theorem dX9_refusals_6 : decode cX9_refusals 6 = .ok (.iconst 1, 1) := dk_4 (dk_at dksX9_refusals_0 6 rfl rfl)
theorem dX9_refusals_7 : decode cX9_refusals 7 = .ok (.bipush 8, 2) := dk_16 8 (dk_at dksX9_refusals_0 7 rfl rfl)
theorem dX9_refusals_9 : decode cX9_refusals 9 = .ok (.invokestatic 88, 3) := dk_184 0 88 (dk_at dksX9_refusals_0 9 rfl rfl)
theorem dX9_refusals_12 : decode cX9_refusals 12 = .ok (.ifCond .eq 12, 3) := dk_153 0 12 (dk_at dksX9_refusals_0 12 rfl rfl)
theorem dX9_refusals_15 : decode cX9_refusals 15 = .ok (.aload_n 0, 1) := dk_42 (dk_at dksX9_refusals_0 15 rfl rfl)
theorem dX9_refusals_16 : decode cX9_refusals 16 = .ok (.getfield 26, 3) := dk_180 0 26 (dk_at dksX9_refusals_0 16 rfl rfl)
theorem dX9_refusals_19 : decode cX9_refusals 19 = .ok (.iload_n 1, 1) := dk_27 (dk_at dksX9_refusals_0 19 rfl rfl)
theorem dX9_refusals_20 : decode cX9_refusals 20 = .ok (.iaload, 1) := dk_46 (dk_at dksX9_refusals_0 20 rfl rfl)
theorem dX9_refusals_21 : decode cX9_refusals 21 = .ok (.goto 8, 3) := dk_167 0 8 (dk_at dksX9_refusals_0 21 rfl rfl)
theorem dX9_refusals_24 : decode cX9_refusals 24 = .ok (.aload_n 0, 1) := dk_42 (dk_at dksX9_refusals_1 0 rfl rfl)
theorem dX9_refusals_25 : decode cX9_refusals 25 = .ok (.iconst 1, 1) := dk_4 (dk_at dksX9_refusals_1 1 rfl rfl)
theorem dX9_refusals_26 : decode cX9_refusals 26 = .ok (.invokevirtual 181, 3) := dk_182 0 181 (dk_at dksX9_refusals_1 2 rfl rfl)
theorem dX9_refusals_29 : decode cX9_refusals 29 = .ok (.ireturn, 1) := dk_172 (dk_at dksX9_refusals_1 5 rfl rfl)
abbrev cX9_step : ByteArray := prog_16_method_134_code
def yX9_step : MethodName := ⟨RX9, "step", "(II)I"⟩
def dkwX9_step_1 : List UInt8 := [184, 0, 88, 153, 0, 12, 42, 27, 28, 182, 1, 63, 167, 0, 8, 42, 5, 182, 0, 181, 172]
abbrev dktX9_step_1 : List UInt8 := dkwX9_step_1 ++ []
def dkwX9_step_0 : List UInt8 := [42, 3, 181, 0, 77, 42, 27, 182, 1, 60, 154, 0, 9, 42, 4, 182, 0, 181, 172, 28, 3, 6]
abbrev dktX9_step_0 : List UInt8 := dkwX9_step_0 ++ dktX9_step_1
theorem dksX9_step_0 : cX9_step.data.toList.drop 0 = dktX9_step_0 := by decide +kernel
theorem dksX9_step_1 : cX9_step.data.toList.drop 22 = dktX9_step_1 := dk_seg dksX9_step_0 22 rfl rfl
theorem dX9_step_0 : decode cX9_step 0 = .ok (.aload_n 0, 1) := dk_42 (dk_at dksX9_step_0 0 rfl rfl)
theorem dX9_step_1 : decode cX9_step 1 = .ok (.iconst 0, 1) := dk_3 (dk_at dksX9_step_0 1 rfl rfl)
theorem dX9_step_2 : decode cX9_step 2 = .ok (.putfield 77, 3) := dk_181 0 77 (dk_at dksX9_step_0 2 rfl rfl)
theorem dX9_step_5 : decode cX9_step 5 = .ok (.aload_n 0, 1) := dk_42 (dk_at dksX9_step_0 5 rfl rfl)
theorem dX9_step_6 : decode cX9_step 6 = .ok (.iload_n 1, 1) := dk_27 (dk_at dksX9_step_0 6 rfl rfl)
theorem dX9_step_7 : decode cX9_step 7 = .ok (.invokevirtual 316, 3) := dk_182 1 60 (dk_at dksX9_step_0 7 rfl rfl)
theorem dX9_step_10 : decode cX9_step 10 = .ok (.ifCond .ne 9, 3) := dk_154 0 9 (dk_at dksX9_step_0 10 rfl rfl)
theorem dX9_step_13 : decode cX9_step 13 = .ok (.aload_n 0, 1) := dk_42 (dk_at dksX9_step_0 13 rfl rfl)
theorem dX9_step_14 : decode cX9_step 14 = .ok (.iconst 1, 1) := dk_4 (dk_at dksX9_step_0 14 rfl rfl)
theorem dX9_step_15 : decode cX9_step 15 = .ok (.invokevirtual 181, 3) := dk_182 0 181 (dk_at dksX9_step_0 15 rfl rfl)
theorem dX9_step_18 : decode cX9_step 18 = .ok (.ireturn, 1) := dk_172 (dk_at dksX9_step_0 18 rfl rfl)
theorem dX9_step_19 : decode cX9_step 19 = .ok (.iload_n 2, 1) := dk_28 (dk_at dksX9_step_0 19 rfl rfl)
theorem dX9_step_20 : decode cX9_step 20 = .ok (.iconst 0, 1) := dk_3 (dk_at dksX9_step_0 20 rfl rfl)
theorem dX9_step_21 : decode cX9_step 21 = .ok (.iconst 3, 1) := dk_6 (dk_at dksX9_step_0 21 rfl rfl)
theorem dX9_step_22 : decode cX9_step 22 = .ok (.invokestatic 88, 3) := dk_184 0 88 (dk_at dksX9_step_1 0 rfl rfl)
theorem dX9_step_25 : decode cX9_step 25 = .ok (.ifCond .eq 12, 3) := dk_153 0 12 (dk_at dksX9_step_1 3 rfl rfl)
theorem dX9_step_28 : decode cX9_step 28 = .ok (.aload_n 0, 1) := dk_42 (dk_at dksX9_step_1 6 rfl rfl)
theorem dX9_step_29 : decode cX9_step 29 = .ok (.iload_n 1, 1) := dk_27 (dk_at dksX9_step_1 7 rfl rfl)
theorem dX9_step_30 : decode cX9_step 30 = .ok (.iload_n 2, 1) := dk_28 (dk_at dksX9_step_1 8 rfl rfl)
theorem dX9_step_31 : decode cX9_step 31 = .ok (.invokevirtual 319, 3) := dk_182 1 63 (dk_at dksX9_step_1 9 rfl rfl)
theorem dX9_step_34 : decode cX9_step 34 = .ok (.goto 8, 3) := dk_167 0 8 (dk_at dksX9_step_1 12 rfl rfl)
theorem dX9_step_37 : decode cX9_step 37 = .ok (.aload_n 0, 1) := dk_42 (dk_at dksX9_step_1 15 rfl rfl)
theorem dX9_step_38 : decode cX9_step 38 = .ok (.iconst 2, 1) := dk_5 (dk_at dksX9_step_1 16 rfl rfl)
theorem dX9_step_39 : decode cX9_step 39 = .ok (.invokevirtual 181, 3) := dk_182 0 181 (dk_at dksX9_step_1 17 rfl rfl)
theorem dX9_step_42 : decode cX9_step 42 = .ok (.ireturn, 1) := dk_172 (dk_at dksX9_step_1 20 rfl rfl)
abbrev cX9_pick : ByteArray := prog_16_method_135_code
def yX9_pick : MethodName := ⟨RX9, "pick", "(II)I"⟩
def dkwX9_pick_1 : List UInt8 := [182, 1, 69, 167, 0, 8, 42, 4, 182, 0, 181, 172]
abbrev dktX9_pick_1 : List UInt8 := dkwX9_pick_1 ++ []
def dkwX9_pick_0 : List UInt8 := [42, 3, 181, 0, 77, 42, 27, 182, 1, 60, 153, 0, 20, 42, 28, 182, 1, 66, 153, 0, 12, 42, 27, 28]
abbrev dktX9_pick_0 : List UInt8 := dkwX9_pick_0 ++ dktX9_pick_1
theorem dksX9_pick_0 : cX9_pick.data.toList.drop 0 = dktX9_pick_0 := by decide +kernel
theorem dksX9_pick_1 : cX9_pick.data.toList.drop 24 = dktX9_pick_1 := dk_seg dksX9_pick_0 24 rfl rfl
theorem dX9_pick_0 : decode cX9_pick 0 = .ok (.aload_n 0, 1) := dk_42 (dk_at dksX9_pick_0 0 rfl rfl)
theorem dX9_pick_1 : decode cX9_pick 1 = .ok (.iconst 0, 1) := dk_3 (dk_at dksX9_pick_0 1 rfl rfl)
theorem dX9_pick_2 : decode cX9_pick 2 = .ok (.putfield 77, 3) := dk_181 0 77 (dk_at dksX9_pick_0 2 rfl rfl)
theorem dX9_pick_5 : decode cX9_pick 5 = .ok (.aload_n 0, 1) := dk_42 (dk_at dksX9_pick_0 5 rfl rfl)
theorem dX9_pick_6 : decode cX9_pick 6 = .ok (.iload_n 1, 1) := dk_27 (dk_at dksX9_pick_0 6 rfl rfl)
theorem dX9_pick_7 : decode cX9_pick 7 = .ok (.invokevirtual 316, 3) := dk_182 1 60 (dk_at dksX9_pick_0 7 rfl rfl)
theorem dX9_pick_10 : decode cX9_pick 10 = .ok (.ifCond .eq 20, 3) := dk_153 0 20 (dk_at dksX9_pick_0 10 rfl rfl)
theorem dX9_pick_13 : decode cX9_pick 13 = .ok (.aload_n 0, 1) := dk_42 (dk_at dksX9_pick_0 13 rfl rfl)
theorem dX9_pick_14 : decode cX9_pick 14 = .ok (.iload_n 2, 1) := dk_28 (dk_at dksX9_pick_0 14 rfl rfl)
theorem dX9_pick_15 : decode cX9_pick 15 = .ok (.invokevirtual 322, 3) := dk_182 1 66 (dk_at dksX9_pick_0 15 rfl rfl)
theorem dX9_pick_18 : decode cX9_pick 18 = .ok (.ifCond .eq 12, 3) := dk_153 0 12 (dk_at dksX9_pick_0 18 rfl rfl)
theorem dX9_pick_21 : decode cX9_pick 21 = .ok (.aload_n 0, 1) := dk_42 (dk_at dksX9_pick_0 21 rfl rfl)
theorem dX9_pick_22 : decode cX9_pick 22 = .ok (.iload_n 1, 1) := dk_27 (dk_at dksX9_pick_0 22 rfl rfl)
theorem dX9_pick_23 : decode cX9_pick 23 = .ok (.iload_n 2, 1) := dk_28 (dk_at dksX9_pick_0 23 rfl rfl)
theorem dX9_pick_24 : decode cX9_pick 24 = .ok (.invokevirtual 325, 3) := dk_182 1 69 (dk_at dksX9_pick_1 0 rfl rfl)
theorem dX9_pick_27 : decode cX9_pick 27 = .ok (.goto 8, 3) := dk_167 0 8 (dk_at dksX9_pick_1 3 rfl rfl)
theorem dX9_pick_30 : decode cX9_pick 30 = .ok (.aload_n 0, 1) := dk_42 (dk_at dksX9_pick_1 6 rfl rfl)
theorem dX9_pick_31 : decode cX9_pick 31 = .ok (.iconst 1, 1) := dk_4 (dk_at dksX9_pick_1 7 rfl rfl)
theorem dX9_pick_32 : decode cX9_pick 32 = .ok (.invokevirtual 181, 3) := dk_182 0 181 (dk_at dksX9_pick_1 8 rfl rfl)
theorem dX9_pick_35 : decode cX9_pick 35 = .ok (.ireturn, 1) := dk_172 (dk_at dksX9_pick_1 11 rfl rfl)
abbrev cX9_give : ByteArray := prog_16_method_136_code
def yX9_give : MethodName := ⟨RX9, "give", "(III)I"⟩
def dkwX9_give_1 : List UInt8 := [182, 1, 66, 153, 0, 13, 42, 27, 28, 29, 182, 1, 72, 167, 0, 8, 42, 4, 182, 0, 181, 172]
abbrev dktX9_give_1 : List UInt8 := dkwX9_give_1 ++ []
def dkwX9_give_0 : List UInt8 := [42, 3, 181, 0, 77, 42, 27, 182, 1, 60, 153, 0, 29, 42, 28, 182, 1, 60, 153, 0, 21, 42, 29]
abbrev dktX9_give_0 : List UInt8 := dkwX9_give_0 ++ dktX9_give_1
theorem dksX9_give_0 : cX9_give.data.toList.drop 0 = dktX9_give_0 := by decide +kernel
theorem dksX9_give_1 : cX9_give.data.toList.drop 23 = dktX9_give_1 := dk_seg dksX9_give_0 23 rfl rfl
theorem dX9_give_0 : decode cX9_give 0 = .ok (.aload_n 0, 1) := dk_42 (dk_at dksX9_give_0 0 rfl rfl)
theorem dX9_give_1 : decode cX9_give 1 = .ok (.iconst 0, 1) := dk_3 (dk_at dksX9_give_0 1 rfl rfl)
theorem dX9_give_2 : decode cX9_give 2 = .ok (.putfield 77, 3) := dk_181 0 77 (dk_at dksX9_give_0 2 rfl rfl)
theorem dX9_give_5 : decode cX9_give 5 = .ok (.aload_n 0, 1) := dk_42 (dk_at dksX9_give_0 5 rfl rfl)
theorem dX9_give_6 : decode cX9_give 6 = .ok (.iload_n 1, 1) := dk_27 (dk_at dksX9_give_0 6 rfl rfl)
theorem dX9_give_7 : decode cX9_give 7 = .ok (.invokevirtual 316, 3) := dk_182 1 60 (dk_at dksX9_give_0 7 rfl rfl)
theorem dX9_give_10 : decode cX9_give 10 = .ok (.ifCond .eq 29, 3) := dk_153 0 29 (dk_at dksX9_give_0 10 rfl rfl)
theorem dX9_give_13 : decode cX9_give 13 = .ok (.aload_n 0, 1) := dk_42 (dk_at dksX9_give_0 13 rfl rfl)
theorem dX9_give_14 : decode cX9_give 14 = .ok (.iload_n 2, 1) := dk_28 (dk_at dksX9_give_0 14 rfl rfl)
theorem dX9_give_15 : decode cX9_give 15 = .ok (.invokevirtual 316, 3) := dk_182 1 60 (dk_at dksX9_give_0 15 rfl rfl)
theorem dX9_give_18 : decode cX9_give 18 = .ok (.ifCond .eq 21, 3) := dk_153 0 21 (dk_at dksX9_give_0 18 rfl rfl)
theorem dX9_give_21 : decode cX9_give 21 = .ok (.aload_n 0, 1) := dk_42 (dk_at dksX9_give_0 21 rfl rfl)
theorem dX9_give_22 : decode cX9_give 22 = .ok (.iload_n 3, 1) := dk_29 (dk_at dksX9_give_0 22 rfl rfl)
theorem dX9_give_23 : decode cX9_give 23 = .ok (.invokevirtual 322, 3) := dk_182 1 66 (dk_at dksX9_give_1 0 rfl rfl)
theorem dX9_give_26 : decode cX9_give 26 = .ok (.ifCond .eq 13, 3) := dk_153 0 13 (dk_at dksX9_give_1 3 rfl rfl)
theorem dX9_give_29 : decode cX9_give 29 = .ok (.aload_n 0, 1) := dk_42 (dk_at dksX9_give_1 6 rfl rfl)
theorem dX9_give_30 : decode cX9_give 30 = .ok (.iload_n 1, 1) := dk_27 (dk_at dksX9_give_1 7 rfl rfl)
theorem dX9_give_31 : decode cX9_give 31 = .ok (.iload_n 2, 1) := dk_28 (dk_at dksX9_give_1 8 rfl rfl)
theorem dX9_give_32 : decode cX9_give 32 = .ok (.iload_n 3, 1) := dk_29 (dk_at dksX9_give_1 9 rfl rfl)
theorem dX9_give_33 : decode cX9_give 33 = .ok (.invokevirtual 328, 3) := dk_182 1 72 (dk_at dksX9_give_1 10 rfl rfl)
theorem dX9_give_36 : decode cX9_give 36 = .ok (.goto 8, 3) := dk_167 0 8 (dk_at dksX9_give_1 13 rfl rfl)
theorem dX9_give_39 : decode cX9_give 39 = .ok (.aload_n 0, 1) := dk_42 (dk_at dksX9_give_1 16 rfl rfl)
theorem dX9_give_40 : decode cX9_give 40 = .ok (.iconst 1, 1) := dk_4 (dk_at dksX9_give_1 17 rfl rfl)
theorem dX9_give_41 : decode cX9_give 41 = .ok (.invokevirtual 181, 3) := dk_182 0 181 (dk_at dksX9_give_1 18 rfl rfl)
theorem dX9_give_44 : decode cX9_give 44 = .ok (.ireturn, 1) := dk_172 (dk_at dksX9_give_1 21 rfl rfl)
abbrev cX9_lay_2 : ByteArray := prog_16_method_137_code
def yX9_lay_2 : MethodName := ⟨RX9, "lay", "(II)I"⟩
def dkwX9_lay_2_1 : List UInt8 := [182, 1, 76, 167, 0, 8, 42, 4, 182, 0, 181, 172]
abbrev dktX9_lay_2_1 : List UInt8 := dkwX9_lay_2_1 ++ []
def dkwX9_lay_2_0 : List UInt8 := [42, 3, 181, 0, 77, 42, 27, 182, 1, 60, 153, 0, 20, 42, 28, 182, 1, 66, 153, 0, 12, 42, 27, 28]
abbrev dktX9_lay_2_0 : List UInt8 := dkwX9_lay_2_0 ++ dktX9_lay_2_1
theorem dksX9_lay_2_0 : cX9_lay_2.data.toList.drop 0 = dktX9_lay_2_0 := by decide +kernel
theorem dksX9_lay_2_1 : cX9_lay_2.data.toList.drop 24 = dktX9_lay_2_1 := dk_seg dksX9_lay_2_0 24 rfl rfl
theorem dX9_lay_2_0 : decode cX9_lay_2 0 = .ok (.aload_n 0, 1) := dk_42 (dk_at dksX9_lay_2_0 0 rfl rfl)
theorem dX9_lay_2_1 : decode cX9_lay_2 1 = .ok (.iconst 0, 1) := dk_3 (dk_at dksX9_lay_2_0 1 rfl rfl)
theorem dX9_lay_2_2 : decode cX9_lay_2 2 = .ok (.putfield 77, 3) := dk_181 0 77 (dk_at dksX9_lay_2_0 2 rfl rfl)
theorem dX9_lay_2_5 : decode cX9_lay_2 5 = .ok (.aload_n 0, 1) := dk_42 (dk_at dksX9_lay_2_0 5 rfl rfl)
theorem dX9_lay_2_6 : decode cX9_lay_2 6 = .ok (.iload_n 1, 1) := dk_27 (dk_at dksX9_lay_2_0 6 rfl rfl)
theorem dX9_lay_2_7 : decode cX9_lay_2 7 = .ok (.invokevirtual 316, 3) := dk_182 1 60 (dk_at dksX9_lay_2_0 7 rfl rfl)
theorem dX9_lay_2_10 : decode cX9_lay_2 10 = .ok (.ifCond .eq 20, 3) := dk_153 0 20 (dk_at dksX9_lay_2_0 10 rfl rfl)
theorem dX9_lay_2_13 : decode cX9_lay_2 13 = .ok (.aload_n 0, 1) := dk_42 (dk_at dksX9_lay_2_0 13 rfl rfl)
theorem dX9_lay_2_14 : decode cX9_lay_2 14 = .ok (.iload_n 2, 1) := dk_28 (dk_at dksX9_lay_2_0 14 rfl rfl)
theorem dX9_lay_2_15 : decode cX9_lay_2 15 = .ok (.invokevirtual 322, 3) := dk_182 1 66 (dk_at dksX9_lay_2_0 15 rfl rfl)
theorem dX9_lay_2_18 : decode cX9_lay_2 18 = .ok (.ifCond .eq 12, 3) := dk_153 0 12 (dk_at dksX9_lay_2_0 18 rfl rfl)
theorem dX9_lay_2_21 : decode cX9_lay_2 21 = .ok (.aload_n 0, 1) := dk_42 (dk_at dksX9_lay_2_0 21 rfl rfl)
theorem dX9_lay_2_22 : decode cX9_lay_2 22 = .ok (.iload_n 1, 1) := dk_27 (dk_at dksX9_lay_2_0 22 rfl rfl)
theorem dX9_lay_2_23 : decode cX9_lay_2 23 = .ok (.iload_n 2, 1) := dk_28 (dk_at dksX9_lay_2_0 23 rfl rfl)
theorem dX9_lay_2_24 : decode cX9_lay_2 24 = .ok (.invokevirtual 332, 3) := dk_182 1 76 (dk_at dksX9_lay_2_1 0 rfl rfl)
theorem dX9_lay_2_27 : decode cX9_lay_2 27 = .ok (.goto 8, 3) := dk_167 0 8 (dk_at dksX9_lay_2_1 3 rfl rfl)
theorem dX9_lay_2_30 : decode cX9_lay_2 30 = .ok (.aload_n 0, 1) := dk_42 (dk_at dksX9_lay_2_1 6 rfl rfl)
theorem dX9_lay_2_31 : decode cX9_lay_2 31 = .ok (.iconst 1, 1) := dk_4 (dk_at dksX9_lay_2_1 7 rfl rfl)
theorem dX9_lay_2_32 : decode cX9_lay_2 32 = .ok (.invokevirtual 181, 3) := dk_182 0 181 (dk_at dksX9_lay_2_1 8 rfl rfl)
theorem dX9_lay_2_35 : decode cX9_lay_2 35 = .ok (.ireturn, 1) := dk_172 (dk_at dksX9_lay_2_1 11 rfl rfl)
abbrev cX9_pass : ByteArray := prog_16_method_138_code
def yX9_pass : MethodName := ⟨RX9, "pass", "(I)I"⟩
def dkwX9_pass_1 : List UInt8 := [4, 182, 0, 181, 172]
abbrev dktX9_pass_1 : List UInt8 := dkwX9_pass_1 ++ []
def dkwX9_pass_0 : List UInt8 := [42, 3, 181, 0, 77, 27, 4, 16, 20, 184, 0, 88, 153, 0, 11, 42, 27, 182, 1, 57, 167, 0, 8, 42]
abbrev dktX9_pass_0 : List UInt8 := dkwX9_pass_0 ++ dktX9_pass_1
theorem dksX9_pass_0 : cX9_pass.data.toList.drop 0 = dktX9_pass_0 := by decide +kernel
theorem dksX9_pass_1 : cX9_pass.data.toList.drop 24 = dktX9_pass_1 := dk_seg dksX9_pass_0 24 rfl rfl
theorem dX9_pass_0 : decode cX9_pass 0 = .ok (.aload_n 0, 1) := dk_42 (dk_at dksX9_pass_0 0 rfl rfl)
theorem dX9_pass_1 : decode cX9_pass 1 = .ok (.iconst 0, 1) := dk_3 (dk_at dksX9_pass_0 1 rfl rfl)
theorem dX9_pass_2 : decode cX9_pass 2 = .ok (.putfield 77, 3) := dk_181 0 77 (dk_at dksX9_pass_0 2 rfl rfl)
theorem dX9_pass_5 : decode cX9_pass 5 = .ok (.iload_n 1, 1) := dk_27 (dk_at dksX9_pass_0 5 rfl rfl)
theorem dX9_pass_6 : decode cX9_pass 6 = .ok (.iconst 1, 1) := dk_4 (dk_at dksX9_pass_0 6 rfl rfl)
theorem dX9_pass_7 : decode cX9_pass 7 = .ok (.bipush 20, 2) := dk_16 20 (dk_at dksX9_pass_0 7 rfl rfl)
theorem dX9_pass_9 : decode cX9_pass 9 = .ok (.invokestatic 88, 3) := dk_184 0 88 (dk_at dksX9_pass_0 9 rfl rfl)
theorem dX9_pass_12 : decode cX9_pass 12 = .ok (.ifCond .eq 11, 3) := dk_153 0 11 (dk_at dksX9_pass_0 12 rfl rfl)
theorem dX9_pass_15 : decode cX9_pass 15 = .ok (.aload_n 0, 1) := dk_42 (dk_at dksX9_pass_0 15 rfl rfl)
theorem dX9_pass_16 : decode cX9_pass 16 = .ok (.iload_n 1, 1) := dk_27 (dk_at dksX9_pass_0 16 rfl rfl)
theorem dX9_pass_17 : decode cX9_pass 17 = .ok (.invokevirtual 313, 3) := dk_182 1 57 (dk_at dksX9_pass_0 17 rfl rfl)
theorem dX9_pass_20 : decode cX9_pass 20 = .ok (.goto 8, 3) := dk_167 0 8 (dk_at dksX9_pass_0 20 rfl rfl)
theorem dX9_pass_23 : decode cX9_pass 23 = .ok (.aload_n 0, 1) := dk_42 (dk_at dksX9_pass_0 23 rfl rfl)
theorem dX9_pass_24 : decode cX9_pass 24 = .ok (.iconst 1, 1) := dk_4 (dk_at dksX9_pass_1 0 rfl rfl)
theorem dX9_pass_25 : decode cX9_pass 25 = .ok (.invokevirtual 181, 3) := dk_182 0 181 (dk_at dksX9_pass_1 1 rfl rfl)
theorem dX9_pass_28 : decode cX9_pass 28 = .ok (.ireturn, 1) := dk_172 (dk_at dksX9_pass_1 4 rfl rfl)
abbrev cX9_write : ByteArray := prog_16_method_142_code
def yX9_write : MethodName := ⟨RX9, "write", "(I)I"⟩
def dkwX9_write_3 : List UInt8 := [89, 180, 1, 202, 4, 96, 181, 1, 202, 132, 2, 1, 167, 255, 209, 42, 180, 1, 202, 172]
abbrev dktX9_write_3 : List UInt8 := dkwX9_write_3 ++ []
def dkwX9_write_2 : List UInt8 := [180, 0, 52, 42, 180, 1, 202, 42, 42, 180, 0, 7, 3, 46, 27, 104, 28, 96, 182, 1, 205, 145, 84, 42]
abbrev dktX9_write_2 : List UInt8 := dkwX9_write_2 ++ dktX9_write_3
def dkwX9_write_1 : List UInt8 := [182, 0, 181, 172, 42, 3, 181, 1, 202, 3, 61, 28, 42, 180, 0, 7, 3, 46, 162, 0, 43, 42]
abbrev dktX9_write_1 : List UInt8 := dkwX9_write_1 ++ dktX9_write_2
def dkwX9_write_0 : List UInt8 := [42, 3, 181, 0, 77, 27, 3, 42, 180, 0, 7, 4, 46, 4, 100, 184, 0, 88, 154, 0, 9, 42, 4]
abbrev dktX9_write_0 : List UInt8 := dkwX9_write_0 ++ dktX9_write_1
theorem dksX9_write_0 : cX9_write.data.toList.drop 0 = dktX9_write_0 := by decide +kernel
theorem dksX9_write_1 : cX9_write.data.toList.drop 23 = dktX9_write_1 := dk_seg dksX9_write_0 23 rfl rfl
theorem dksX9_write_2 : cX9_write.data.toList.drop 45 = dktX9_write_2 := dk_seg dksX9_write_1 22 rfl rfl
theorem dksX9_write_3 : cX9_write.data.toList.drop 69 = dktX9_write_3 := dk_seg dksX9_write_2 24 rfl rfl
theorem dX9_write_0 : decode cX9_write 0 = .ok (.aload_n 0, 1) := dk_42 (dk_at dksX9_write_0 0 rfl rfl)
theorem dX9_write_1 : decode cX9_write 1 = .ok (.iconst 0, 1) := dk_3 (dk_at dksX9_write_0 1 rfl rfl)
theorem dX9_write_2 : decode cX9_write 2 = .ok (.putfield 77, 3) := dk_181 0 77 (dk_at dksX9_write_0 2 rfl rfl)
theorem dX9_write_5 : decode cX9_write 5 = .ok (.iload_n 1, 1) := dk_27 (dk_at dksX9_write_0 5 rfl rfl)
theorem dX9_write_6 : decode cX9_write 6 = .ok (.iconst 0, 1) := dk_3 (dk_at dksX9_write_0 6 rfl rfl)
theorem dX9_write_7 : decode cX9_write 7 = .ok (.aload_n 0, 1) := dk_42 (dk_at dksX9_write_0 7 rfl rfl)
theorem dX9_write_8 : decode cX9_write 8 = .ok (.getfield 7, 3) := dk_180 0 7 (dk_at dksX9_write_0 8 rfl rfl)
theorem dX9_write_11 : decode cX9_write 11 = .ok (.iconst 1, 1) := dk_4 (dk_at dksX9_write_0 11 rfl rfl)
theorem dX9_write_12 : decode cX9_write 12 = .ok (.iaload, 1) := dk_46 (dk_at dksX9_write_0 12 rfl rfl)
theorem dX9_write_13 : decode cX9_write 13 = .ok (.iconst 1, 1) := dk_4 (dk_at dksX9_write_0 13 rfl rfl)
theorem dX9_write_14 : decode cX9_write 14 = .ok (.isub, 1) := dk_100 (dk_at dksX9_write_0 14 rfl rfl)
theorem dX9_write_15 : decode cX9_write 15 = .ok (.invokestatic 88, 3) := dk_184 0 88 (dk_at dksX9_write_0 15 rfl rfl)
theorem dX9_write_18 : decode cX9_write 18 = .ok (.ifCond .ne 9, 3) := dk_154 0 9 (dk_at dksX9_write_0 18 rfl rfl)
theorem dX9_write_21 : decode cX9_write 21 = .ok (.aload_n 0, 1) := dk_42 (dk_at dksX9_write_0 21 rfl rfl)
theorem dX9_write_22 : decode cX9_write 22 = .ok (.iconst 1, 1) := dk_4 (dk_at dksX9_write_0 22 rfl rfl)
theorem dX9_write_23 : decode cX9_write 23 = .ok (.invokevirtual 181, 3) := dk_182 0 181 (dk_at dksX9_write_1 0 rfl rfl)
theorem dX9_write_26 : decode cX9_write 26 = .ok (.ireturn, 1) := dk_172 (dk_at dksX9_write_1 3 rfl rfl)
theorem dX9_write_27 : decode cX9_write 27 = .ok (.aload_n 0, 1) := dk_42 (dk_at dksX9_write_1 4 rfl rfl)
theorem dX9_write_28 : decode cX9_write 28 = .ok (.iconst 0, 1) := dk_3 (dk_at dksX9_write_1 5 rfl rfl)
theorem dX9_write_29 : decode cX9_write 29 = .ok (.putfield 458, 3) := dk_181 1 202 (dk_at dksX9_write_1 6 rfl rfl)
theorem dX9_write_32 : decode cX9_write 32 = .ok (.iconst 0, 1) := dk_3 (dk_at dksX9_write_1 9 rfl rfl)
theorem dX9_write_33 : decode cX9_write 33 = .ok (.istore_n 2, 1) := dk_61 (dk_at dksX9_write_1 10 rfl rfl)
theorem dX9_write_34 : decode cX9_write 34 = .ok (.iload_n 2, 1) := dk_28 (dk_at dksX9_write_1 11 rfl rfl)
theorem dX9_write_35 : decode cX9_write 35 = .ok (.aload_n 0, 1) := dk_42 (dk_at dksX9_write_1 12 rfl rfl)
theorem dX9_write_36 : decode cX9_write 36 = .ok (.getfield 7, 3) := dk_180 0 7 (dk_at dksX9_write_1 13 rfl rfl)
theorem dX9_write_39 : decode cX9_write 39 = .ok (.iconst 0, 1) := dk_3 (dk_at dksX9_write_1 16 rfl rfl)
theorem dX9_write_40 : decode cX9_write 40 = .ok (.iaload, 1) := dk_46 (dk_at dksX9_write_1 17 rfl rfl)
theorem dX9_write_41 : decode cX9_write 41 = .ok (.if_icmp .ge 43, 3) := dk_162 0 43 (dk_at dksX9_write_1 18 rfl rfl)
theorem dX9_write_44 : decode cX9_write 44 = .ok (.aload_n 0, 1) := dk_42 (dk_at dksX9_write_1 21 rfl rfl)
theorem dX9_write_45 : decode cX9_write 45 = .ok (.getfield 52, 3) := dk_180 0 52 (dk_at dksX9_write_2 0 rfl rfl)
theorem dX9_write_48 : decode cX9_write 48 = .ok (.aload_n 0, 1) := dk_42 (dk_at dksX9_write_2 3 rfl rfl)
theorem dX9_write_49 : decode cX9_write 49 = .ok (.getfield 458, 3) := dk_180 1 202 (dk_at dksX9_write_2 4 rfl rfl)
theorem dX9_write_52 : decode cX9_write 52 = .ok (.aload_n 0, 1) := dk_42 (dk_at dksX9_write_2 7 rfl rfl)
theorem dX9_write_53 : decode cX9_write 53 = .ok (.aload_n 0, 1) := dk_42 (dk_at dksX9_write_2 8 rfl rfl)
theorem dX9_write_54 : decode cX9_write 54 = .ok (.getfield 7, 3) := dk_180 0 7 (dk_at dksX9_write_2 9 rfl rfl)
theorem dX9_write_57 : decode cX9_write 57 = .ok (.iconst 0, 1) := dk_3 (dk_at dksX9_write_2 12 rfl rfl)
theorem dX9_write_58 : decode cX9_write 58 = .ok (.iaload, 1) := dk_46 (dk_at dksX9_write_2 13 rfl rfl)
theorem dX9_write_59 : decode cX9_write 59 = .ok (.iload_n 1, 1) := dk_27 (dk_at dksX9_write_2 14 rfl rfl)
theorem dX9_write_60 : decode cX9_write 60 = .ok (.imul, 1) := dk_104 (dk_at dksX9_write_2 15 rfl rfl)
theorem dX9_write_61 : decode cX9_write 61 = .ok (.iload_n 2, 1) := dk_28 (dk_at dksX9_write_2 16 rfl rfl)
theorem dX9_write_62 : decode cX9_write 62 = .ok (.iadd, 1) := dk_96 (dk_at dksX9_write_2 17 rfl rfl)
theorem dX9_write_63 : decode cX9_write 63 = .ok (.invokevirtual 461, 3) := dk_182 1 205 (dk_at dksX9_write_2 18 rfl rfl)
theorem dX9_write_66 : decode cX9_write 66 = .ok (.i2b, 1) := dk_145 (dk_at dksX9_write_2 21 rfl rfl)
theorem dX9_write_67 : decode cX9_write 67 = .ok (.bastore, 1) := dk_84 (dk_at dksX9_write_2 22 rfl rfl)
theorem dX9_write_68 : decode cX9_write 68 = .ok (.aload_n 0, 1) := dk_42 (dk_at dksX9_write_2 23 rfl rfl)
theorem dX9_write_69 : decode cX9_write 69 = .ok (.dup, 1) := dk_89 (dk_at dksX9_write_3 0 rfl rfl)
theorem dX9_write_70 : decode cX9_write 70 = .ok (.getfield 458, 3) := dk_180 1 202 (dk_at dksX9_write_3 1 rfl rfl)
theorem dX9_write_73 : decode cX9_write 73 = .ok (.iconst 1, 1) := dk_4 (dk_at dksX9_write_3 4 rfl rfl)
theorem dX9_write_74 : decode cX9_write 74 = .ok (.iadd, 1) := dk_96 (dk_at dksX9_write_3 5 rfl rfl)
theorem dX9_write_75 : decode cX9_write 75 = .ok (.putfield 458, 3) := dk_181 1 202 (dk_at dksX9_write_3 6 rfl rfl)
theorem dX9_write_78 : decode cX9_write 78 = .ok (.iinc 2 1, 3) := dk_132 2 1 (dk_at dksX9_write_3 9 rfl rfl)
theorem dX9_write_81 : decode cX9_write 81 = .ok (.goto (-47), 3) := dk_167 255 209 (dk_at dksX9_write_3 12 rfl rfl)
theorem dX9_write_84 : decode cX9_write 84 = .ok (.aload_n 0, 1) := dk_42 (dk_at dksX9_write_3 15 rfl rfl)
theorem dX9_write_85 : decode cX9_write 85 = .ok (.getfield 458, 3) := dk_180 1 202 (dk_at dksX9_write_3 16 rfl rfl)
theorem dX9_write_88 : decode cX9_write 88 = .ok (.ireturn, 1) := dk_172 (dk_at dksX9_write_3 19 rfl rfl)
abbrev cX9_signOf : ByteArray := prog_16_method_141_code
def yX9_signOf : MethodName := ⟨RX9, "signOf", "(I)I"⟩
def dkwX9_signOf_3 : List UInt8 := [167, 0, 11, 16, 48, 42, 27, 182, 0, 132, 96, 172]
abbrev dktX9_signOf_3 : List UInt8 := dkwX9_signOf_3 ++ []
def dkwX9_signOf_2 : List UInt8 := [27, 182, 1, 106, 158, 0, 8, 16, 42, 167, 0, 24, 42, 27, 182, 1, 124, 153, 0, 8, 16, 33]
abbrev dktX9_signOf_2 : List UInt8 := dkwX9_signOf_2 ++ dktX9_signOf_3
def dkwX9_signOf_1 : List UInt8 := [182, 1, 196, 96, 172, 42, 27, 182, 1, 199, 2, 159, 0, 12, 16, 65, 42, 27, 182, 1, 199, 96, 172, 42]
abbrev dktX9_signOf_1 : List UInt8 := dkwX9_signOf_1 ++ dktX9_signOf_2
def dkwX9_signOf_0 : List UInt8 := [42, 27, 182, 0, 125, 153, 0, 6, 16, 35, 172, 42, 27, 182, 1, 196, 2, 159, 0, 12, 16, 97, 42, 27]
abbrev dktX9_signOf_0 : List UInt8 := dkwX9_signOf_0 ++ dktX9_signOf_1
theorem dksX9_signOf_0 : cX9_signOf.data.toList.drop 0 = dktX9_signOf_0 := by decide +kernel
theorem dksX9_signOf_1 : cX9_signOf.data.toList.drop 24 = dktX9_signOf_1 := dk_seg dksX9_signOf_0 24 rfl rfl
theorem dksX9_signOf_2 : cX9_signOf.data.toList.drop 48 = dktX9_signOf_2 := dk_seg dksX9_signOf_1 24 rfl rfl
theorem dksX9_signOf_3 : cX9_signOf.data.toList.drop 70 = dktX9_signOf_3 := dk_seg dksX9_signOf_2 22 rfl rfl
theorem dX9_signOf_0 : decode cX9_signOf 0 = .ok (.aload_n 0, 1) := dk_42 (dk_at dksX9_signOf_0 0 rfl rfl)
theorem dX9_signOf_1 : decode cX9_signOf 1 = .ok (.iload_n 1, 1) := dk_27 (dk_at dksX9_signOf_0 1 rfl rfl)
theorem dX9_signOf_2 : decode cX9_signOf 2 = .ok (.invokevirtual 125, 3) := dk_182 0 125 (dk_at dksX9_signOf_0 2 rfl rfl)
theorem dX9_signOf_5 : decode cX9_signOf 5 = .ok (.ifCond .eq 6, 3) := dk_153 0 6 (dk_at dksX9_signOf_0 5 rfl rfl)
theorem dX9_signOf_8 : decode cX9_signOf 8 = .ok (.bipush 35, 2) := dk_16 35 (dk_at dksX9_signOf_0 8 rfl rfl)
theorem dX9_signOf_10 : decode cX9_signOf 10 = .ok (.ireturn, 1) := dk_172 (dk_at dksX9_signOf_0 10 rfl rfl)
theorem dX9_signOf_11 : decode cX9_signOf 11 = .ok (.aload_n 0, 1) := dk_42 (dk_at dksX9_signOf_0 11 rfl rfl)
theorem dX9_signOf_12 : decode cX9_signOf 12 = .ok (.iload_n 1, 1) := dk_27 (dk_at dksX9_signOf_0 12 rfl rfl)
theorem dX9_signOf_13 : decode cX9_signOf 13 = .ok (.invokevirtual 452, 3) := dk_182 1 196 (dk_at dksX9_signOf_0 13 rfl rfl)
theorem dX9_signOf_16 : decode cX9_signOf 16 = .ok (.iconst (-1), 1) := dk_2 (dk_at dksX9_signOf_0 16 rfl rfl)
theorem dX9_signOf_17 : decode cX9_signOf 17 = .ok (.if_icmp .eq 12, 3) := dk_159 0 12 (dk_at dksX9_signOf_0 17 rfl rfl)
theorem dX9_signOf_20 : decode cX9_signOf 20 = .ok (.bipush 97, 2) := dk_16 97 (dk_at dksX9_signOf_0 20 rfl rfl)
theorem dX9_signOf_22 : decode cX9_signOf 22 = .ok (.aload_n 0, 1) := dk_42 (dk_at dksX9_signOf_0 22 rfl rfl)
theorem dX9_signOf_23 : decode cX9_signOf 23 = .ok (.iload_n 1, 1) := dk_27 (dk_at dksX9_signOf_0 23 rfl rfl)
theorem dX9_signOf_24 : decode cX9_signOf 24 = .ok (.invokevirtual 452, 3) := dk_182 1 196 (dk_at dksX9_signOf_1 0 rfl rfl)
theorem dX9_signOf_27 : decode cX9_signOf 27 = .ok (.iadd, 1) := dk_96 (dk_at dksX9_signOf_1 3 rfl rfl)
theorem dX9_signOf_28 : decode cX9_signOf 28 = .ok (.ireturn, 1) := dk_172 (dk_at dksX9_signOf_1 4 rfl rfl)
theorem dX9_signOf_29 : decode cX9_signOf 29 = .ok (.aload_n 0, 1) := dk_42 (dk_at dksX9_signOf_1 5 rfl rfl)
theorem dX9_signOf_30 : decode cX9_signOf 30 = .ok (.iload_n 1, 1) := dk_27 (dk_at dksX9_signOf_1 6 rfl rfl)
theorem dX9_signOf_31 : decode cX9_signOf 31 = .ok (.invokevirtual 455, 3) := dk_182 1 199 (dk_at dksX9_signOf_1 7 rfl rfl)
theorem dX9_signOf_34 : decode cX9_signOf 34 = .ok (.iconst (-1), 1) := dk_2 (dk_at dksX9_signOf_1 10 rfl rfl)
theorem dX9_signOf_35 : decode cX9_signOf 35 = .ok (.if_icmp .eq 12, 3) := dk_159 0 12 (dk_at dksX9_signOf_1 11 rfl rfl)
theorem dX9_signOf_38 : decode cX9_signOf 38 = .ok (.bipush 65, 2) := dk_16 65 (dk_at dksX9_signOf_1 14 rfl rfl)
theorem dX9_signOf_40 : decode cX9_signOf 40 = .ok (.aload_n 0, 1) := dk_42 (dk_at dksX9_signOf_1 16 rfl rfl)
theorem dX9_signOf_41 : decode cX9_signOf 41 = .ok (.iload_n 1, 1) := dk_27 (dk_at dksX9_signOf_1 17 rfl rfl)
theorem dX9_signOf_42 : decode cX9_signOf 42 = .ok (.invokevirtual 455, 3) := dk_182 1 199 (dk_at dksX9_signOf_1 18 rfl rfl)
theorem dX9_signOf_45 : decode cX9_signOf 45 = .ok (.iadd, 1) := dk_96 (dk_at dksX9_signOf_1 21 rfl rfl)
theorem dX9_signOf_46 : decode cX9_signOf 46 = .ok (.ireturn, 1) := dk_172 (dk_at dksX9_signOf_1 22 rfl rfl)
theorem dX9_signOf_47 : decode cX9_signOf 47 = .ok (.aload_n 0, 1) := dk_42 (dk_at dksX9_signOf_1 23 rfl rfl)
theorem dX9_signOf_48 : decode cX9_signOf 48 = .ok (.iload_n 1, 1) := dk_27 (dk_at dksX9_signOf_2 0 rfl rfl)
theorem dX9_signOf_49 : decode cX9_signOf 49 = .ok (.invokevirtual 362, 3) := dk_182 1 106 (dk_at dksX9_signOf_2 1 rfl rfl)
theorem dX9_signOf_52 : decode cX9_signOf 52 = .ok (.ifCond .le 8, 3) := dk_158 0 8 (dk_at dksX9_signOf_2 4 rfl rfl)
theorem dX9_signOf_55 : decode cX9_signOf 55 = .ok (.bipush 42, 2) := dk_16 42 (dk_at dksX9_signOf_2 7 rfl rfl)
theorem dX9_signOf_57 : decode cX9_signOf 57 = .ok (.goto 24, 3) := dk_167 0 24 (dk_at dksX9_signOf_2 9 rfl rfl)
theorem dX9_signOf_60 : decode cX9_signOf 60 = .ok (.aload_n 0, 1) := dk_42 (dk_at dksX9_signOf_2 12 rfl rfl)
theorem dX9_signOf_61 : decode cX9_signOf 61 = .ok (.iload_n 1, 1) := dk_27 (dk_at dksX9_signOf_2 13 rfl rfl)
theorem dX9_signOf_62 : decode cX9_signOf 62 = .ok (.invokevirtual 380, 3) := dk_182 1 124 (dk_at dksX9_signOf_2 14 rfl rfl)
theorem dX9_signOf_65 : decode cX9_signOf 65 = .ok (.ifCond .eq 8, 3) := dk_153 0 8 (dk_at dksX9_signOf_2 17 rfl rfl)
theorem dX9_signOf_68 : decode cX9_signOf 68 = .ok (.bipush 33, 2) := dk_16 33 (dk_at dksX9_signOf_2 20 rfl rfl)
theorem dX9_signOf_70 : decode cX9_signOf 70 = .ok (.goto 11, 3) := dk_167 0 11 (dk_at dksX9_signOf_3 0 rfl rfl)
theorem dX9_signOf_73 : decode cX9_signOf 73 = .ok (.bipush 48, 2) := dk_16 48 (dk_at dksX9_signOf_3 3 rfl rfl)
theorem dX9_signOf_75 : decode cX9_signOf 75 = .ok (.aload_n 0, 1) := dk_42 (dk_at dksX9_signOf_3 5 rfl rfl)
theorem dX9_signOf_76 : decode cX9_signOf 76 = .ok (.iload_n 1, 1) := dk_27 (dk_at dksX9_signOf_3 6 rfl rfl)
theorem dX9_signOf_77 : decode cX9_signOf 77 = .ok (.invokevirtual 132, 3) := dk_182 0 132 (dk_at dksX9_signOf_3 7 rfl rfl)
theorem dX9_signOf_80 : decode cX9_signOf 80 = .ok (.iadd, 1) := dk_96 (dk_at dksX9_signOf_3 10 rfl rfl)
theorem dX9_signOf_81 : decode cX9_signOf 81 = .ok (.ireturn, 1) := dk_172 (dk_at dksX9_signOf_3 11 rfl rfl)
abbrev cX9_lowestCourierOn : ByteArray := prog_16_method_139_code
def yX9_lowestCourierOn : MethodName := ⟨RX9, "lowestCourierOn", "(I)I"⟩
def dkwX9_lowestCourierOn_1 : List UInt8 := [132, 2, 1, 167, 255, 231, 2, 172]
abbrev dktX9_lowestCourierOn_1 : List UInt8 := dkwX9_lowestCourierOn_1 ++ []
def dkwX9_lowestCourierOn_0 : List UInt8 := [3, 61, 28, 42, 180, 0, 7, 8, 46, 162, 0, 21, 42, 28, 3, 182, 0, 80, 27, 160, 0, 5, 28, 172]
abbrev dktX9_lowestCourierOn_0 : List UInt8 := dkwX9_lowestCourierOn_0 ++ dktX9_lowestCourierOn_1
theorem dksX9_lowestCourierOn_0 : cX9_lowestCourierOn.data.toList.drop 0 = dktX9_lowestCourierOn_0 := by decide +kernel
theorem dksX9_lowestCourierOn_1 : cX9_lowestCourierOn.data.toList.drop 24 = dktX9_lowestCourierOn_1 := dk_seg dksX9_lowestCourierOn_0 24 rfl rfl
theorem dX9_lowestCourierOn_0 : decode cX9_lowestCourierOn 0 = .ok (.iconst 0, 1) := dk_3 (dk_at dksX9_lowestCourierOn_0 0 rfl rfl)
theorem dX9_lowestCourierOn_1 : decode cX9_lowestCourierOn 1 = .ok (.istore_n 2, 1) := dk_61 (dk_at dksX9_lowestCourierOn_0 1 rfl rfl)
theorem dX9_lowestCourierOn_2 : decode cX9_lowestCourierOn 2 = .ok (.iload_n 2, 1) := dk_28 (dk_at dksX9_lowestCourierOn_0 2 rfl rfl)
theorem dX9_lowestCourierOn_3 : decode cX9_lowestCourierOn 3 = .ok (.aload_n 0, 1) := dk_42 (dk_at dksX9_lowestCourierOn_0 3 rfl rfl)
theorem dX9_lowestCourierOn_4 : decode cX9_lowestCourierOn 4 = .ok (.getfield 7, 3) := dk_180 0 7 (dk_at dksX9_lowestCourierOn_0 4 rfl rfl)
theorem dX9_lowestCourierOn_7 : decode cX9_lowestCourierOn 7 = .ok (.iconst 5, 1) := dk_8 (dk_at dksX9_lowestCourierOn_0 7 rfl rfl)
theorem dX9_lowestCourierOn_8 : decode cX9_lowestCourierOn 8 = .ok (.iaload, 1) := dk_46 (dk_at dksX9_lowestCourierOn_0 8 rfl rfl)
theorem dX9_lowestCourierOn_9 : decode cX9_lowestCourierOn 9 = .ok (.if_icmp .ge 21, 3) := dk_162 0 21 (dk_at dksX9_lowestCourierOn_0 9 rfl rfl)
theorem dX9_lowestCourierOn_12 : decode cX9_lowestCourierOn 12 = .ok (.aload_n 0, 1) := dk_42 (dk_at dksX9_lowestCourierOn_0 12 rfl rfl)
theorem dX9_lowestCourierOn_13 : decode cX9_lowestCourierOn 13 = .ok (.iload_n 2, 1) := dk_28 (dk_at dksX9_lowestCourierOn_0 13 rfl rfl)
theorem dX9_lowestCourierOn_14 : decode cX9_lowestCourierOn 14 = .ok (.iconst 0, 1) := dk_3 (dk_at dksX9_lowestCourierOn_0 14 rfl rfl)
theorem dX9_lowestCourierOn_15 : decode cX9_lowestCourierOn 15 = .ok (.invokevirtual 80, 3) := dk_182 0 80 (dk_at dksX9_lowestCourierOn_0 15 rfl rfl)
theorem dX9_lowestCourierOn_18 : decode cX9_lowestCourierOn 18 = .ok (.iload_n 1, 1) := dk_27 (dk_at dksX9_lowestCourierOn_0 18 rfl rfl)
theorem dX9_lowestCourierOn_19 : decode cX9_lowestCourierOn 19 = .ok (.if_icmp .ne 5, 3) := dk_160 0 5 (dk_at dksX9_lowestCourierOn_0 19 rfl rfl)
theorem dX9_lowestCourierOn_22 : decode cX9_lowestCourierOn 22 = .ok (.iload_n 2, 1) := dk_28 (dk_at dksX9_lowestCourierOn_0 22 rfl rfl)
theorem dX9_lowestCourierOn_23 : decode cX9_lowestCourierOn 23 = .ok (.ireturn, 1) := dk_172 (dk_at dksX9_lowestCourierOn_0 23 rfl rfl)
theorem dX9_lowestCourierOn_24 : decode cX9_lowestCourierOn 24 = .ok (.iinc 2 1, 3) := dk_132 2 1 (dk_at dksX9_lowestCourierOn_1 0 rfl rfl)
theorem dX9_lowestCourierOn_27 : decode cX9_lowestCourierOn 27 = .ok (.goto (-25), 3) := dk_167 255 231 (dk_at dksX9_lowestCourierOn_1 3 rfl rfl)
theorem dX9_lowestCourierOn_30 : decode cX9_lowestCourierOn 30 = .ok (.iconst (-1), 1) := dk_2 (dk_at dksX9_lowestCourierOn_1 6 rfl rfl)
theorem dX9_lowestCourierOn_31 : decode cX9_lowestCourierOn 31 = .ok (.ireturn, 1) := dk_172 (dk_at dksX9_lowestCourierOn_1 7 rfl rfl)
abbrev cX9_lowestWatcherOn : ByteArray := prog_16_method_140_code
def yX9_lowestWatcherOn : MethodName := ⟨RX9, "lowestWatcherOn", "(I)I"⟩
def dkwX9_lowestWatcherOn_1 : List UInt8 := [132, 2, 1, 167, 255, 231, 2, 172]
abbrev dktX9_lowestWatcherOn_1 : List UInt8 := dkwX9_lowestWatcherOn_1 ++ []
def dkwX9_lowestWatcherOn_0 : List UInt8 := [3, 61, 28, 42, 180, 0, 7, 7, 46, 162, 0, 21, 42, 28, 3, 182, 0, 119, 27, 160, 0, 5, 28, 172]
abbrev dktX9_lowestWatcherOn_0 : List UInt8 := dkwX9_lowestWatcherOn_0 ++ dktX9_lowestWatcherOn_1
theorem dksX9_lowestWatcherOn_0 : cX9_lowestWatcherOn.data.toList.drop 0 = dktX9_lowestWatcherOn_0 := by decide +kernel
theorem dksX9_lowestWatcherOn_1 : cX9_lowestWatcherOn.data.toList.drop 24 = dktX9_lowestWatcherOn_1 := dk_seg dksX9_lowestWatcherOn_0 24 rfl rfl
theorem dX9_lowestWatcherOn_0 : decode cX9_lowestWatcherOn 0 = .ok (.iconst 0, 1) := dk_3 (dk_at dksX9_lowestWatcherOn_0 0 rfl rfl)
theorem dX9_lowestWatcherOn_1 : decode cX9_lowestWatcherOn 1 = .ok (.istore_n 2, 1) := dk_61 (dk_at dksX9_lowestWatcherOn_0 1 rfl rfl)
theorem dX9_lowestWatcherOn_2 : decode cX9_lowestWatcherOn 2 = .ok (.iload_n 2, 1) := dk_28 (dk_at dksX9_lowestWatcherOn_0 2 rfl rfl)
theorem dX9_lowestWatcherOn_3 : decode cX9_lowestWatcherOn 3 = .ok (.aload_n 0, 1) := dk_42 (dk_at dksX9_lowestWatcherOn_0 3 rfl rfl)
theorem dX9_lowestWatcherOn_4 : decode cX9_lowestWatcherOn 4 = .ok (.getfield 7, 3) := dk_180 0 7 (dk_at dksX9_lowestWatcherOn_0 4 rfl rfl)
theorem dX9_lowestWatcherOn_7 : decode cX9_lowestWatcherOn 7 = .ok (.iconst 4, 1) := dk_7 (dk_at dksX9_lowestWatcherOn_0 7 rfl rfl)
theorem dX9_lowestWatcherOn_8 : decode cX9_lowestWatcherOn 8 = .ok (.iaload, 1) := dk_46 (dk_at dksX9_lowestWatcherOn_0 8 rfl rfl)
theorem dX9_lowestWatcherOn_9 : decode cX9_lowestWatcherOn 9 = .ok (.if_icmp .ge 21, 3) := dk_162 0 21 (dk_at dksX9_lowestWatcherOn_0 9 rfl rfl)
theorem dX9_lowestWatcherOn_12 : decode cX9_lowestWatcherOn 12 = .ok (.aload_n 0, 1) := dk_42 (dk_at dksX9_lowestWatcherOn_0 12 rfl rfl)
theorem dX9_lowestWatcherOn_13 : decode cX9_lowestWatcherOn 13 = .ok (.iload_n 2, 1) := dk_28 (dk_at dksX9_lowestWatcherOn_0 13 rfl rfl)
theorem dX9_lowestWatcherOn_14 : decode cX9_lowestWatcherOn 14 = .ok (.iconst 0, 1) := dk_3 (dk_at dksX9_lowestWatcherOn_0 14 rfl rfl)
theorem dX9_lowestWatcherOn_15 : decode cX9_lowestWatcherOn 15 = .ok (.invokevirtual 119, 3) := dk_182 0 119 (dk_at dksX9_lowestWatcherOn_0 15 rfl rfl)
theorem dX9_lowestWatcherOn_18 : decode cX9_lowestWatcherOn 18 = .ok (.iload_n 1, 1) := dk_27 (dk_at dksX9_lowestWatcherOn_0 18 rfl rfl)
theorem dX9_lowestWatcherOn_19 : decode cX9_lowestWatcherOn 19 = .ok (.if_icmp .ne 5, 3) := dk_160 0 5 (dk_at dksX9_lowestWatcherOn_0 19 rfl rfl)
theorem dX9_lowestWatcherOn_22 : decode cX9_lowestWatcherOn 22 = .ok (.iload_n 2, 1) := dk_28 (dk_at dksX9_lowestWatcherOn_0 22 rfl rfl)
theorem dX9_lowestWatcherOn_23 : decode cX9_lowestWatcherOn 23 = .ok (.ireturn, 1) := dk_172 (dk_at dksX9_lowestWatcherOn_0 23 rfl rfl)
theorem dX9_lowestWatcherOn_24 : decode cX9_lowestWatcherOn 24 = .ok (.iinc 2 1, 3) := dk_132 2 1 (dk_at dksX9_lowestWatcherOn_1 0 rfl rfl)
theorem dX9_lowestWatcherOn_27 : decode cX9_lowestWatcherOn 27 = .ok (.goto (-25), 3) := dk_167 255 231 (dk_at dksX9_lowestWatcherOn_1 3 rfl rfl)
theorem dX9_lowestWatcherOn_30 : decode cX9_lowestWatcherOn 30 = .ok (.iconst (-1), 1) := dk_2 (dk_at dksX9_lowestWatcherOn_1 6 rfl rfl)
theorem dX9_lowestWatcherOn_31 : decode cX9_lowestWatcherOn 31 = .ok (.ireturn, 1) := dk_172 (dk_at dksX9_lowestWatcherOn_1 7 rfl rfl)
abbrev cX9_output : ByteArray := prog_16_method_143_code
def yX9_output : MethodName := ⟨RX9, "output", "(I)I"⟩
def dkwX9_output_1 : List UInt8 := [51, 17, 0, 255, 126, 167, 0, 4, 2, 172]
abbrev dktX9_output_1 : List UInt8 := dkwX9_output_1 ++ []
def dkwX9_output_0 : List UInt8 := [42, 3, 181, 0, 77, 27, 3, 42, 180, 1, 202, 4, 100, 184, 0, 88, 153, 0, 16, 42, 180, 0, 52, 27]
abbrev dktX9_output_0 : List UInt8 := dkwX9_output_0 ++ dktX9_output_1
theorem dksX9_output_0 : cX9_output.data.toList.drop 0 = dktX9_output_0 := by decide +kernel
theorem dksX9_output_1 : cX9_output.data.toList.drop 24 = dktX9_output_1 := dk_seg dksX9_output_0 24 rfl rfl
theorem dX9_output_0 : decode cX9_output 0 = .ok (.aload_n 0, 1) := dk_42 (dk_at dksX9_output_0 0 rfl rfl)
theorem dX9_output_1 : decode cX9_output 1 = .ok (.iconst 0, 1) := dk_3 (dk_at dksX9_output_0 1 rfl rfl)
theorem dX9_output_2 : decode cX9_output 2 = .ok (.putfield 77, 3) := dk_181 0 77 (dk_at dksX9_output_0 2 rfl rfl)
theorem dX9_output_5 : decode cX9_output 5 = .ok (.iload_n 1, 1) := dk_27 (dk_at dksX9_output_0 5 rfl rfl)
theorem dX9_output_6 : decode cX9_output 6 = .ok (.iconst 0, 1) := dk_3 (dk_at dksX9_output_0 6 rfl rfl)
theorem dX9_output_7 : decode cX9_output 7 = .ok (.aload_n 0, 1) := dk_42 (dk_at dksX9_output_0 7 rfl rfl)
theorem dX9_output_8 : decode cX9_output 8 = .ok (.getfield 458, 3) := dk_180 1 202 (dk_at dksX9_output_0 8 rfl rfl)
theorem dX9_output_11 : decode cX9_output 11 = .ok (.iconst 1, 1) := dk_4 (dk_at dksX9_output_0 11 rfl rfl)
theorem dX9_output_12 : decode cX9_output 12 = .ok (.isub, 1) := dk_100 (dk_at dksX9_output_0 12 rfl rfl)
theorem dX9_output_13 : decode cX9_output 13 = .ok (.invokestatic 88, 3) := dk_184 0 88 (dk_at dksX9_output_0 13 rfl rfl)
theorem dX9_output_16 : decode cX9_output 16 = .ok (.ifCond .eq 16, 3) := dk_153 0 16 (dk_at dksX9_output_0 16 rfl rfl)
theorem dX9_output_19 : decode cX9_output 19 = .ok (.aload_n 0, 1) := dk_42 (dk_at dksX9_output_0 19 rfl rfl)
theorem dX9_output_20 : decode cX9_output 20 = .ok (.getfield 52, 3) := dk_180 0 52 (dk_at dksX9_output_0 20 rfl rfl)
theorem dX9_output_23 : decode cX9_output 23 = .ok (.iload_n 1, 1) := dk_27 (dk_at dksX9_output_0 23 rfl rfl)
theorem dX9_output_24 : decode cX9_output 24 = .ok (.baload, 1) := dk_51 (dk_at dksX9_output_1 0 rfl rfl)
theorem dX9_output_25 : decode cX9_output 25 = .ok (.sipush 255, 3) := dk_17 0 255 (dk_at dksX9_output_1 1 rfl rfl)
theorem dX9_output_28 : decode cX9_output 28 = .ok (.iand, 1) := dk_126 (dk_at dksX9_output_1 4 rfl rfl)
theorem dX9_output_29 : decode cX9_output 29 = .ok (.goto 4, 3) := dk_167 0 4 (dk_at dksX9_output_1 5 rfl rfl)
theorem dX9_output_32 : decode cX9_output 32 = .ok (.iconst (-1), 1) := dk_2 (dk_at dksX9_output_1 8 rfl rfl)
theorem dX9_output_33 : decode cX9_output 33 = .ok (.ireturn, 1) := dk_172 (dk_at dksX9_output_1 9 rfl rfl)
abbrev cX9_undo : ByteArray := prog_16_method_144_code
def yX9_undo : MethodName := ⟨RX9, "undo", "()I"⟩
def dkwX9_undo_2 : List UInt8 := [172]
abbrev dktX9_undo_2 : List UInt8 := dkwX9_undo_2 ++ []
def dkwX9_undo_1 : List UInt8 := [42, 180, 0, 16, 17, 0, 216, 42, 180, 1, 36, 104, 42, 180, 0, 7, 3, 184, 1, 26, 42, 180, 1, 36]
abbrev dktX9_undo_1 : List UInt8 := dkwX9_undo_1 ++ dktX9_undo_2
def dkwX9_undo_0 : List UInt8 := [42, 3, 181, 0, 77, 42, 180, 1, 36, 154, 0, 5, 2, 172, 42, 89, 180, 1, 36, 4, 100, 181, 1, 36]
abbrev dktX9_undo_0 : List UInt8 := dkwX9_undo_0 ++ dktX9_undo_1
theorem dksX9_undo_0 : cX9_undo.data.toList.drop 0 = dktX9_undo_0 := by decide +kernel
theorem dksX9_undo_1 : cX9_undo.data.toList.drop 24 = dktX9_undo_1 := dk_seg dksX9_undo_0 24 rfl rfl
theorem dksX9_undo_2 : cX9_undo.data.toList.drop 48 = dktX9_undo_2 := dk_seg dksX9_undo_1 24 rfl rfl
theorem dX9_undo_0 : decode cX9_undo 0 = .ok (.aload_n 0, 1) := dk_42 (dk_at dksX9_undo_0 0 rfl rfl)
theorem dX9_undo_1 : decode cX9_undo 1 = .ok (.iconst 0, 1) := dk_3 (dk_at dksX9_undo_0 1 rfl rfl)
theorem dX9_undo_2 : decode cX9_undo 2 = .ok (.putfield 77, 3) := dk_181 0 77 (dk_at dksX9_undo_0 2 rfl rfl)
theorem dX9_undo_5 : decode cX9_undo 5 = .ok (.aload_n 0, 1) := dk_42 (dk_at dksX9_undo_0 5 rfl rfl)
theorem dX9_undo_6 : decode cX9_undo 6 = .ok (.getfield 292, 3) := dk_180 1 36 (dk_at dksX9_undo_0 6 rfl rfl)
theorem dX9_undo_9 : decode cX9_undo 9 = .ok (.ifCond .ne 5, 3) := dk_154 0 5 (dk_at dksX9_undo_0 9 rfl rfl)
theorem dX9_undo_12 : decode cX9_undo 12 = .ok (.iconst (-1), 1) := dk_2 (dk_at dksX9_undo_0 12 rfl rfl)
theorem dX9_undo_13 : decode cX9_undo 13 = .ok (.ireturn, 1) := dk_172 (dk_at dksX9_undo_0 13 rfl rfl)
theorem dX9_undo_14 : decode cX9_undo 14 = .ok (.aload_n 0, 1) := dk_42 (dk_at dksX9_undo_0 14 rfl rfl)
theorem dX9_undo_15 : decode cX9_undo 15 = .ok (.dup, 1) := dk_89 (dk_at dksX9_undo_0 15 rfl rfl)
theorem dX9_undo_16 : decode cX9_undo 16 = .ok (.getfield 292, 3) := dk_180 1 36 (dk_at dksX9_undo_0 16 rfl rfl)
theorem dX9_undo_19 : decode cX9_undo 19 = .ok (.iconst 1, 1) := dk_4 (dk_at dksX9_undo_0 19 rfl rfl)
theorem dX9_undo_20 : decode cX9_undo 20 = .ok (.isub, 1) := dk_100 (dk_at dksX9_undo_0 20 rfl rfl)
theorem dX9_undo_21 : decode cX9_undo 21 = .ok (.putfield 292, 3) := dk_181 1 36 (dk_at dksX9_undo_0 21 rfl rfl)
theorem dX9_undo_24 : decode cX9_undo 24 = .ok (.aload_n 0, 1) := dk_42 (dk_at dksX9_undo_1 0 rfl rfl)
theorem dX9_undo_25 : decode cX9_undo 25 = .ok (.getfield 16, 3) := dk_180 0 16 (dk_at dksX9_undo_1 1 rfl rfl)
theorem dX9_undo_28 : decode cX9_undo 28 = .ok (.sipush 216, 3) := dk_17 0 216 (dk_at dksX9_undo_1 4 rfl rfl)
theorem dX9_undo_31 : decode cX9_undo 31 = .ok (.aload_n 0, 1) := dk_42 (dk_at dksX9_undo_1 7 rfl rfl)
theorem dX9_undo_32 : decode cX9_undo 32 = .ok (.getfield 292, 3) := dk_180 1 36 (dk_at dksX9_undo_1 8 rfl rfl)
theorem dX9_undo_35 : decode cX9_undo 35 = .ok (.imul, 1) := dk_104 (dk_at dksX9_undo_1 11 rfl rfl)
theorem dX9_undo_36 : decode cX9_undo 36 = .ok (.aload_n 0, 1) := dk_42 (dk_at dksX9_undo_1 12 rfl rfl)
theorem dX9_undo_37 : decode cX9_undo 37 = .ok (.getfield 7, 3) := dk_180 0 7 (dk_at dksX9_undo_1 13 rfl rfl)
theorem dX9_undo_40 : decode cX9_undo 40 = .ok (.iconst 0, 1) := dk_3 (dk_at dksX9_undo_1 16 rfl rfl)
theorem dX9_undo_41 : decode cX9_undo 41 = .ok (.invokestatic 282, 3) := dk_184 1 26 (dk_at dksX9_undo_1 17 rfl rfl)
theorem dX9_undo_44 : decode cX9_undo 44 = .ok (.aload_n 0, 1) := dk_42 (dk_at dksX9_undo_1 20 rfl rfl)
theorem dX9_undo_45 : decode cX9_undo 45 = .ok (.getfield 292, 3) := dk_180 1 36 (dk_at dksX9_undo_1 21 rfl rfl)
theorem dX9_undo_48 : decode cX9_undo 48 = .ok (.ireturn, 1) := dk_172 (dk_at dksX9_undo_2 0 rfl rfl)
abbrev cX9_save : ByteArray := prog_16_method_145_code
def yX9_save : MethodName := ⟨RX9, "save", "(I)V"⟩
def dkwX9_save_1 : List UInt8 := [3, 42, 180, 0, 19, 17, 0, 216, 27, 104, 184, 1, 26, 42, 180, 0, 22, 27, 4, 84, 177]
abbrev dktX9_save_1 : List UInt8 := dkwX9_save_1 ++ []
def dkwX9_save_0 : List UInt8 := [42, 3, 181, 0, 77, 27, 3, 4, 184, 0, 88, 154, 0, 9, 42, 4, 181, 0, 77, 177, 42, 180, 0, 7]
abbrev dktX9_save_0 : List UInt8 := dkwX9_save_0 ++ dktX9_save_1
theorem dksX9_save_0 : cX9_save.data.toList.drop 0 = dktX9_save_0 := by decide +kernel
theorem dksX9_save_1 : cX9_save.data.toList.drop 24 = dktX9_save_1 := dk_seg dksX9_save_0 24 rfl rfl
theorem dX9_save_0 : decode cX9_save 0 = .ok (.aload_n 0, 1) := dk_42 (dk_at dksX9_save_0 0 rfl rfl)
theorem dX9_save_1 : decode cX9_save 1 = .ok (.iconst 0, 1) := dk_3 (dk_at dksX9_save_0 1 rfl rfl)
theorem dX9_save_2 : decode cX9_save 2 = .ok (.putfield 77, 3) := dk_181 0 77 (dk_at dksX9_save_0 2 rfl rfl)
theorem dX9_save_5 : decode cX9_save 5 = .ok (.iload_n 1, 1) := dk_27 (dk_at dksX9_save_0 5 rfl rfl)
theorem dX9_save_6 : decode cX9_save 6 = .ok (.iconst 0, 1) := dk_3 (dk_at dksX9_save_0 6 rfl rfl)
theorem dX9_save_7 : decode cX9_save 7 = .ok (.iconst 1, 1) := dk_4 (dk_at dksX9_save_0 7 rfl rfl)
theorem dX9_save_8 : decode cX9_save 8 = .ok (.invokestatic 88, 3) := dk_184 0 88 (dk_at dksX9_save_0 8 rfl rfl)
theorem dX9_save_11 : decode cX9_save 11 = .ok (.ifCond .ne 9, 3) := dk_154 0 9 (dk_at dksX9_save_0 11 rfl rfl)
theorem dX9_save_14 : decode cX9_save 14 = .ok (.aload_n 0, 1) := dk_42 (dk_at dksX9_save_0 14 rfl rfl)
theorem dX9_save_15 : decode cX9_save 15 = .ok (.iconst 1, 1) := dk_4 (dk_at dksX9_save_0 15 rfl rfl)
theorem dX9_save_16 : decode cX9_save 16 = .ok (.putfield 77, 3) := dk_181 0 77 (dk_at dksX9_save_0 16 rfl rfl)
theorem dX9_save_19 : decode cX9_save 19 = .ok (.return_, 1) := dk_177 (dk_at dksX9_save_0 19 rfl rfl)
theorem dX9_save_20 : decode cX9_save 20 = .ok (.aload_n 0, 1) := dk_42 (dk_at dksX9_save_0 20 rfl rfl)
theorem dX9_save_21 : decode cX9_save 21 = .ok (.getfield 7, 3) := dk_180 0 7 (dk_at dksX9_save_0 21 rfl rfl)
theorem dX9_save_24 : decode cX9_save 24 = .ok (.iconst 0, 1) := dk_3 (dk_at dksX9_save_1 0 rfl rfl)
theorem dX9_save_25 : decode cX9_save 25 = .ok (.aload_n 0, 1) := dk_42 (dk_at dksX9_save_1 1 rfl rfl)
theorem dX9_save_26 : decode cX9_save 26 = .ok (.getfield 19, 3) := dk_180 0 19 (dk_at dksX9_save_1 2 rfl rfl)
theorem dX9_save_29 : decode cX9_save 29 = .ok (.sipush 216, 3) := dk_17 0 216 (dk_at dksX9_save_1 5 rfl rfl)
theorem dX9_save_32 : decode cX9_save 32 = .ok (.iload_n 1, 1) := dk_27 (dk_at dksX9_save_1 8 rfl rfl)
theorem dX9_save_33 : decode cX9_save 33 = .ok (.imul, 1) := dk_104 (dk_at dksX9_save_1 9 rfl rfl)
theorem dX9_save_34 : decode cX9_save 34 = .ok (.invokestatic 282, 3) := dk_184 1 26 (dk_at dksX9_save_1 10 rfl rfl)
theorem dX9_save_37 : decode cX9_save 37 = .ok (.aload_n 0, 1) := dk_42 (dk_at dksX9_save_1 13 rfl rfl)
theorem dX9_save_38 : decode cX9_save 38 = .ok (.getfield 22, 3) := dk_180 0 22 (dk_at dksX9_save_1 14 rfl rfl)
theorem dX9_save_41 : decode cX9_save 41 = .ok (.iload_n 1, 1) := dk_27 (dk_at dksX9_save_1 17 rfl rfl)
theorem dX9_save_42 : decode cX9_save 42 = .ok (.iconst 1, 1) := dk_4 (dk_at dksX9_save_1 18 rfl rfl)
theorem dX9_save_43 : decode cX9_save 43 = .ok (.bastore, 1) := dk_84 (dk_at dksX9_save_1 19 rfl rfl)
theorem dX9_save_44 : decode cX9_save 44 = .ok (.return_, 1) := dk_177 (dk_at dksX9_save_1 20 rfl rfl)
abbrev cX9_restore : ByteArray := prog_16_method_146_code
def yX9_restore : MethodName := ⟨RX9, "restore", "(I)V"⟩
def dkwX9_restore_2 : List UInt8 := [3, 184, 1, 26, 42, 3, 181, 1, 36, 177]
abbrev dktX9_restore_2 : List UInt8 := dkwX9_restore_2 ++ []
def dkwX9_restore_1 : List UInt8 := [27, 51, 154, 0, 9, 42, 5, 181, 0, 77, 177, 42, 180, 0, 19, 17, 0, 216, 27, 104, 42, 180, 0, 7]
abbrev dktX9_restore_1 : List UInt8 := dkwX9_restore_1 ++ dktX9_restore_2
def dkwX9_restore_0 : List UInt8 := [42, 3, 181, 0, 77, 27, 3, 4, 184, 0, 88, 154, 0, 9, 42, 4, 181, 0, 77, 177, 42, 180, 0, 22]
abbrev dktX9_restore_0 : List UInt8 := dkwX9_restore_0 ++ dktX9_restore_1
theorem dksX9_restore_0 : cX9_restore.data.toList.drop 0 = dktX9_restore_0 := by decide +kernel
theorem dksX9_restore_1 : cX9_restore.data.toList.drop 24 = dktX9_restore_1 := dk_seg dksX9_restore_0 24 rfl rfl
theorem dksX9_restore_2 : cX9_restore.data.toList.drop 48 = dktX9_restore_2 := dk_seg dksX9_restore_1 24 rfl rfl
theorem dX9_restore_0 : decode cX9_restore 0 = .ok (.aload_n 0, 1) := dk_42 (dk_at dksX9_restore_0 0 rfl rfl)
theorem dX9_restore_1 : decode cX9_restore 1 = .ok (.iconst 0, 1) := dk_3 (dk_at dksX9_restore_0 1 rfl rfl)
theorem dX9_restore_2 : decode cX9_restore 2 = .ok (.putfield 77, 3) := dk_181 0 77 (dk_at dksX9_restore_0 2 rfl rfl)
theorem dX9_restore_5 : decode cX9_restore 5 = .ok (.iload_n 1, 1) := dk_27 (dk_at dksX9_restore_0 5 rfl rfl)
theorem dX9_restore_6 : decode cX9_restore 6 = .ok (.iconst 0, 1) := dk_3 (dk_at dksX9_restore_0 6 rfl rfl)
theorem dX9_restore_7 : decode cX9_restore 7 = .ok (.iconst 1, 1) := dk_4 (dk_at dksX9_restore_0 7 rfl rfl)
theorem dX9_restore_8 : decode cX9_restore 8 = .ok (.invokestatic 88, 3) := dk_184 0 88 (dk_at dksX9_restore_0 8 rfl rfl)
theorem dX9_restore_11 : decode cX9_restore 11 = .ok (.ifCond .ne 9, 3) := dk_154 0 9 (dk_at dksX9_restore_0 11 rfl rfl)
theorem dX9_restore_14 : decode cX9_restore 14 = .ok (.aload_n 0, 1) := dk_42 (dk_at dksX9_restore_0 14 rfl rfl)
theorem dX9_restore_15 : decode cX9_restore 15 = .ok (.iconst 1, 1) := dk_4 (dk_at dksX9_restore_0 15 rfl rfl)
theorem dX9_restore_16 : decode cX9_restore 16 = .ok (.putfield 77, 3) := dk_181 0 77 (dk_at dksX9_restore_0 16 rfl rfl)
theorem dX9_restore_19 : decode cX9_restore 19 = .ok (.return_, 1) := dk_177 (dk_at dksX9_restore_0 19 rfl rfl)
theorem dX9_restore_20 : decode cX9_restore 20 = .ok (.aload_n 0, 1) := dk_42 (dk_at dksX9_restore_0 20 rfl rfl)
theorem dX9_restore_21 : decode cX9_restore 21 = .ok (.getfield 22, 3) := dk_180 0 22 (dk_at dksX9_restore_0 21 rfl rfl)
theorem dX9_restore_24 : decode cX9_restore 24 = .ok (.iload_n 1, 1) := dk_27 (dk_at dksX9_restore_1 0 rfl rfl)
theorem dX9_restore_25 : decode cX9_restore 25 = .ok (.baload, 1) := dk_51 (dk_at dksX9_restore_1 1 rfl rfl)
theorem dX9_restore_26 : decode cX9_restore 26 = .ok (.ifCond .ne 9, 3) := dk_154 0 9 (dk_at dksX9_restore_1 2 rfl rfl)
theorem dX9_restore_29 : decode cX9_restore 29 = .ok (.aload_n 0, 1) := dk_42 (dk_at dksX9_restore_1 5 rfl rfl)
theorem dX9_restore_30 : decode cX9_restore 30 = .ok (.iconst 2, 1) := dk_5 (dk_at dksX9_restore_1 6 rfl rfl)
theorem dX9_restore_31 : decode cX9_restore 31 = .ok (.putfield 77, 3) := dk_181 0 77 (dk_at dksX9_restore_1 7 rfl rfl)
theorem dX9_restore_34 : decode cX9_restore 34 = .ok (.return_, 1) := dk_177 (dk_at dksX9_restore_1 10 rfl rfl)
theorem dX9_restore_35 : decode cX9_restore 35 = .ok (.aload_n 0, 1) := dk_42 (dk_at dksX9_restore_1 11 rfl rfl)
theorem dX9_restore_36 : decode cX9_restore 36 = .ok (.getfield 19, 3) := dk_180 0 19 (dk_at dksX9_restore_1 12 rfl rfl)
theorem dX9_restore_39 : decode cX9_restore 39 = .ok (.sipush 216, 3) := dk_17 0 216 (dk_at dksX9_restore_1 15 rfl rfl)
theorem dX9_restore_42 : decode cX9_restore 42 = .ok (.iload_n 1, 1) := dk_27 (dk_at dksX9_restore_1 18 rfl rfl)
theorem dX9_restore_43 : decode cX9_restore 43 = .ok (.imul, 1) := dk_104 (dk_at dksX9_restore_1 19 rfl rfl)
theorem dX9_restore_44 : decode cX9_restore 44 = .ok (.aload_n 0, 1) := dk_42 (dk_at dksX9_restore_1 20 rfl rfl)
theorem dX9_restore_45 : decode cX9_restore 45 = .ok (.getfield 7, 3) := dk_180 0 7 (dk_at dksX9_restore_1 21 rfl rfl)
theorem dX9_restore_48 : decode cX9_restore 48 = .ok (.iconst 0, 1) := dk_3 (dk_at dksX9_restore_2 0 rfl rfl)
theorem dX9_restore_49 : decode cX9_restore 49 = .ok (.invokestatic 282, 3) := dk_184 1 26 (dk_at dksX9_restore_2 1 rfl rfl)
theorem dX9_restore_52 : decode cX9_restore 52 = .ok (.aload_n 0, 1) := dk_42 (dk_at dksX9_restore_2 4 rfl rfl)
theorem dX9_restore_53 : decode cX9_restore 53 = .ok (.iconst 0, 1) := dk_3 (dk_at dksX9_restore_2 5 rfl rfl)
theorem dX9_restore_54 : decode cX9_restore 54 = .ok (.putfield 292, 3) := dk_181 1 36 (dk_at dksX9_restore_2 6 rfl rfl)
theorem dX9_restore_57 : decode cX9_restore 57 = .ok (.return_, 1) := dk_177 (dk_at dksX9_restore_2 9 rfl rfl)
